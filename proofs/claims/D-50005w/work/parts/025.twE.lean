/-! the reference's methods, walked by program (tool/cw.py): F_ the pure function, mt_ the contract -/
def F_clears_1 (R : Nat → Tw → Int32 → Int32 → Int32 → Int32 → Int32 → Option (Int32 × Tw)) (n : Nat) (σ : Tw) (x1 : Int32) (x2 : Int32) (x3 : Int32) (x4 : Int32) (x5 : Int32) : Option (Int32 × Tw) := if 9 ≤ x5 then some (0, σ) else gd (inB ((9 * x1) + x5) 72) (gd (inB ((9 * x2) + x5) 72) (bnd (F_mod σ (((σ).2 24 (((9 * x1) + x5)).toNatClampNeg) - (x4 * ((σ).2 24 (((9 * x2) + x5)).toNatClampNeg)))) (fun r5 u5 => gd (inB ((9 * x1) + x5) 72) (R 1 (tw_sa u5 24 (((9 * x1) + x5)).toNatClampNeg r5) x1 x2 x3 x4 (x5 + 1)))))
def F_clears_r : Nat → Nat → Tw → Int32 → Int32 → Int32 → Int32 → Int32 → Option (Int32 × Tw)
  | 0 => fun _ _ _ _ _ _ _ => none
  | n + 1 => fun k => match k with  | _ => F_clears_1 (F_clears_r n) n
def F_clears_0 (R : Nat → Tw → Int32 → Int32 → Int32 → Int32 → Int32 → Option (Int32 × Tw)) (n : Nat) (σ : Tw) (p1 : Int32) (p2 : Int32) (p3 : Int32) : Option (Int32 × Tw) := gd (inB ((9 * p1) + p3) 72) (R 1 σ p1 p2 p3 ((σ).2 24 (((9 * p1) + p3)).toNatClampNeg) 0)
def F_clears (n : Nat) (σ : Tw) (p1 : Int32) (p2 : Int32) (p3 : Int32) : Option (Int32 × Tw) := F_clears_0 (F_clears_r n) n σ p1 p2 p3
set_option maxHeartbeats 4000000 in
set_option maxRecDepth 100000 in
theorem mt_clears (l : Launch) (dC : Nat → ClassId) (dI : Nat → Nat → Nat) (cI cZ : ClassId) (m0 : Nat) (ad : Nat → Nat) (sz : Nat) (σ : Tw) (n : Nat)  (p1 : Int32) (p2 : Int32) (p3 : Int32) (out : Int32 × Tw) (hF : F_clears n σ p1 p2 p3 = some out) : Met l yX5_clears (ws_ yX5_clears cX5_clears 6 none) ({ frames := 2, cells := 0, slots := 0, locals := 43 }) (va_Pc [.ref m0, .int p1, .int p2, .int p3] (tw_Pre dC dI cI cZ m0 ad sz σ)) (va_Qv (fun u => (0, u) = out) (tw_B dC dI cI cZ m0 ad) (tw_A m0 ad sz)) 0 0 (tw_A m0 ad sz) := by
  refine Met.ofW (cc := cX5_clears) (maxL := 6) (ret := none) (by decide +kernel) rfl ?_
  intro p e s m args below meth c s₁ B hml hv
  obtain ⟨rfl, hsz, hP, hK, hD0⟩ := hv
  have hx := B.exec
  have hb := B.bytes
  have hr := B.returns
  have hts := atoms_spec (ws := (ws_ yX5_clears cX5_clears 6 none)) B.pre
  have hts : ∀ w ∈ lw_all, w.before _ s = true := fun w h => hts w (List.mem_cons_of_mem _ h)
  have hown : s.vm.findClass RX5 = some m.cls := findClass_of_methodNamed B.named
  have hlocks := B.notSynchronized
  subst hsz
  have hD := tw_Ds (z := s.heap.size) hD0
  have hAA := fun z (h : s.heap.size ≤ z) => tw_Am (m0 := m0) (ad := ad) h
  generalize hAe : tw_A m0 ad s.heap.size = A at hD hAA ⊢
  have hS : va_S A s.heap s.heap [] := va_S.rf
  have hP : va_P (dC, dI) vwCl (tw_ws m0 ad cI cZ σ) s.heap := hP
  have hl := lv_entry ([.ref m0, .int p1, .int p2, .int p3]) (n := 6) (Nat.le_of_ble_eq_true rfl)
  rw [lg_entry_eq]
  generalize (lg_sl ([.ref m0, .int p1, .int p2, .int p3]) ++ List.replicate (6 - (lg_sl ([.ref m0, .int p1, .int p2, .int p3])).length) Slot.unset).toArray = ls at hl ⊢
  have hl : lv_has ls 6 [(0, .ref m0), (1, .int p1), (2, .int p2), (3, .int p3)] := hl
  have loop : ∀ n : Nat, (∀ (σ : Tw) (x1 x2 x3 x4 x5 : Int32), F_clears_r n 1 σ x1 x2 x3 x4 x5 = some out → ∀ (H : Heap) (locs : List Loc), va_P (dC, dI) vwCl (tw_ws m0 ad cI cZ σ) H → va_D A (tw_ws m0 ad cI cZ σ) → va_S A s.heap H locs → ∀ ls : Array Slot, lv_has ls 6 [(0, .ref m0), (1, .int x1), (2, .int x2), (3, .int x3), (4, .int x4), (5, .int x5)] → W p l e (headSpec (ws_ yX5_clears cX5_clears 6 none) ({ frames := 2, cells := 0, slots := 0, locals := 43 })).room s m ([.ref m0, .int p1, .int p2, .int p3] : List Value).toArray below meth c H locs 0 0 (MQ below (va_Qv (fun u => (0, u) = out) (tw_B dC dI cI cZ m0 ad) A) ([.ref m0, .int p1, .int p2, .int p3] : List Value).toArray s 0 0 A) (F0 m 16 ls [])) := by
    intro n
    induction n with
    | zero => exact (fun _ _ _ _ _ _ h => nomatch h)
    | succ n ih =>
      have lp1 := ih
      intro σ x1 x2 x3 x4 x5 hF H locs hP hD hS ls hl
      replace hF : F_clears_1 (F_clears_r n) n σ x1 x2 x3 x4 x5 = some out := hF
      unfold F_clears_1 at hF
      refine lv_iload hx hb dX5_clears_16 (lv_at hl 5 rfl) ?_
      refine lv_bipush (v := 9) hx hb dX5_clears_18 (by decide) ?_
      refine lv_icmp_ge (tgt := 73) hx hb dX5_clears_20 (by decide) (fun c2 => ?_) (fun c2 => ?_)
      · replace hF := it_t c2 hF
        exact W.vret hx hb hr (fun t ht hW => ⟨⟨σ, rfl, Option.some.inj hF, by rw [ht]; exact hP, va_K.moved hW.alike hK⟩, hS.F ht⟩) hS.2.2 dX5_clears_73
      · replace hF := it_f c2 hF
        refine lv_aload_n hx hb dX5_clears_23 rfl (lv_at hl 0 rfl) ?_
        refine va_get (D := (dC, dI)) (ci := 0) (v := .ref (ad 24)) (C := RX5) (T := TX5) (N := 28) hx hb hts in_X5 hown hK hP 0 tw_g rfl 24 (by decide) (hts _ q2010) (fun _ h9 => h9) rfl dX5_clears_24 ?_
        refine lv_bipush (v := 9) hx hb dX5_clears_27 (by decide) ?_
        refine lv_iload_n hx hb dX5_clears_29 rfl (lv_at hl 1 rfl) ?_
        refine lv_imul hx hb dX5_clears_30 ?_
        refine lv_iload hx hb dX5_clears_31 (lv_at hl 5 rfl) ?_
        refine lv_iadd hx hb dX5_clears_33 ?_
        refine lv_aload_n hx hb dX5_clears_34 rfl (lv_at hl 0 rfl) ?_
        refine lv_aload_n hx hb dX5_clears_35 rfl (lv_at hl 0 rfl) ?_
        refine va_get (D := (dC, dI)) (ci := 0) (v := .ref (ad 24)) (C := RX5) (T := TX5) (N := 28) hx hb hts in_X5 hown hK hP 0 tw_g rfl 24 (by decide) (hts _ q2010) (fun _ h9 => h9) rfl dX5_clears_36 ?_
        refine lv_bipush (v := 9) hx hb dX5_clears_39 (by decide) ?_
        refine lv_iload_n hx hb dX5_clears_41 rfl (lv_at hl 1 rfl) ?_
        refine lv_imul hx hb dX5_clears_42 ?_
        refine lv_iload hx hb dX5_clears_43 (lv_at hl 5 rfl) ?_
        refine lv_iadd hx hb dX5_clears_45 ?_
        obtain ⟨g3, hF⟩ := gd_s hF
        refine va_iald hx hb hK hP 13 0 tw_e24 rfl (inB_in g3) dX5_clears_46 ?_
        refine lv_iload hx hb dX5_clears_47 (lv_at hl 4 rfl) ?_
        refine lv_aload_n hx hb dX5_clears_49 rfl (lv_at hl 0 rfl) ?_
        refine va_get (D := (dC, dI)) (ci := 0) (v := .ref (ad 24)) (C := RX5) (T := TX5) (N := 28) hx hb hts in_X5 hown hK hP 0 tw_g rfl 24 (by decide) (hts _ q2010) (fun _ h9 => h9) rfl dX5_clears_50 ?_
        refine lv_bipush (v := 9) hx hb dX5_clears_53 (by decide) ?_
        refine lv_iload_n hx hb dX5_clears_55 rfl (lv_at hl 2 rfl) ?_
        refine lv_imul hx hb dX5_clears_56 ?_
        refine lv_iload hx hb dX5_clears_57 (lv_at hl 5 rfl) ?_
        refine lv_iadd hx hb dX5_clears_59 ?_
        obtain ⟨g4, hF⟩ := gd_s hF
        refine va_iald hx hb hK hP 13 0 tw_e24 rfl (inB_in g4) dX5_clears_60 ?_
        refine lv_imul hx hb dX5_clears_61 ?_
        refine lv_isub hx hb dX5_clears_62 ?_
        obtain ⟨r5, u5, e5, hF⟩ := bnd_s hF
        refine tw_calli (va_runV (As := [.int (((σ).2 24 (((9 * x1) + x5)).toNatClampNeg) - (x4 * ((σ).2 24 (((9 * x2) + x5)).toNatClampNeg)))]) (rest := [.int ((9 * x1) + x5), .ref (ad 24)]) ⟨hx, hb, hml, hown, hts⟩ (mt_mod l dC dI cI cZ m0 ad H.size σ  (((σ).2 24 (((9 * x1) + x5)).toNatClampNeg) - (x4 * ((σ).2 24 (((9 * x2) + x5)).toNatClampNeg))) _ e5) (cwV 1 hts (lw_V q2253 q2255 qs70 q125 q2256) rfl rfl rfl (by decide +kernel) ⟨Nat.le_of_ble_eq_true rfl, Nat.le_of_ble_eq_true rfl⟩) (tw_preV hK hP hD _) rfl rfl hl.1 rfl (lv_room (Nat.le_of_ble_eq_true rfl)) dX5_clears_63 ⟨Nat.le_of_ble_eq_true rfl, Nat.le_of_ble_eq_true rfl⟩) hS hD hAA (fun rr uu H locs hw hP hD hS => ?_)
        obtain rfl : r5 = rr := (congrArg Prod.fst hw).symm
        obtain rfl : u5 = uu := (congrArg Prod.snd hw).symm
        obtain ⟨g6, hF⟩ := gd_s hF
        refine va_iast hx hb hK hP hD hS 13 0 tw_e24 rfl (x := r5) (inB_in g6) dX5_clears_66 (fun H locs hP hD hS => ?_)
        rw [tw_s24] at hP hD
        refine lv_iinc (v := (x5 + 1)) (lv' := [(5, .int (x5 + 1)), (0, .ref m0), (1, .int x1), (2, .int x2), (3, .int x3), (4, .int x4)]) hx hb dX5_clears_67 hl (k := 5) rfl rfl (by decide) rfl (fun ls hl => ?_)
        refine lv_goto (tgt := 16) hx hb dX5_clears_70 (by decide) ?_
        exact lp1 (tw_sa u5 24 (((9 * x1) + x5)).toNatClampNeg r5) x1 x2 x3 x4 (x5 + 1) hF _ _ hP hD hS ls (lv_sub hl [1, 2, 3, 4, 5, 0] rfl)
  have lp1 := loop n
  unfold F_clears F_clears_0 at hF
  refine lv_aload_n hx hb dX5_clears_0 rfl (lv_at hl 0 rfl) ?_
  refine va_get (D := (dC, dI)) (ci := 0) (v := .ref (ad 24)) (C := RX5) (T := TX5) (N := 28) hx hb hts in_X5 hown hK hP 0 tw_g rfl 24 (by decide) (hts _ q2010) (fun _ h9 => h9) rfl dX5_clears_1 ?_
  refine lv_bipush (v := 9) hx hb dX5_clears_4 (by decide) ?_
  refine lv_iload_n hx hb dX5_clears_6 rfl (lv_at hl 1 rfl) ?_
  refine lv_imul hx hb dX5_clears_7 ?_
  refine lv_iload_n hx hb dX5_clears_8 rfl (lv_at hl 3 rfl) ?_
  refine lv_iadd hx hb dX5_clears_9 ?_
  obtain ⟨g1, hF⟩ := gd_s hF
  refine va_iald hx hb hK hP 13 0 tw_e24 rfl (inB_in g1) dX5_clears_10 ?_
  refine lv_istore (lv' := [(4, .int ((σ).2 24 (((9 * p1) + p3)).toNatClampNeg)), (0, .ref m0), (1, .int p1), (2, .int p2), (3, .int p3)]) hx hb dX5_clears_11 hl (by decide) rfl (fun ls hl => ?_)
  refine lv_iconst (v := 0) hx hb dX5_clears_13 (by decide) ?_
  refine lv_istore (lv' := [(5, .int 0), (4, .int ((σ).2 24 (((9 * p1) + p3)).toNatClampNeg)), (0, .ref m0), (1, .int p1), (2, .int p2), (3, .int p3)]) hx hb dX5_clears_14 hl (by decide) rfl (fun ls hl => ?_)
  exact lp1 σ p1 p2 p3 ((σ).2 24 (((9 * p1) + p3)).toNatClampNeg) 0 hF _ _ hP hD hS ls (lv_sub hl [2, 3, 4, 5, 1, 0] rfl)

def F_divides_1 (R : Nat → Tw → Int32 → Int32 → Int32 → Option (Int32 × Tw)) (n : Nat) (σ : Tw) (x1 : Int32) (x2 : Int32) (x3 : Int32) : Option (Int32 × Tw) := if 9 ≤ x3 then some (0, σ) else gd (inB ((9 * x1) + x3) 72) (bnd (F_quotient n σ ((σ).2 24 (((9 * x1) + x3)).toNatClampNeg) x2) (fun r3 u3 => gd (inB ((9 * x1) + x3) 72) (R 1 (tw_sa u3 24 (((9 * x1) + x3)).toNatClampNeg r3) x1 x2 (x3 + 1))))
def F_divides_r : Nat → Nat → Tw → Int32 → Int32 → Int32 → Option (Int32 × Tw)
  | 0 => fun _ _ _ _ _ => none
  | n + 1 => fun k => match k with  | _ => F_divides_1 (F_divides_r n) n
def F_divides_0 (R : Nat → Tw → Int32 → Int32 → Int32 → Option (Int32 × Tw)) (n : Nat) (σ : Tw) (p1 : Int32) (p2 : Int32) : Option (Int32 × Tw) := R 1 σ p1 p2 0
def F_divides (n : Nat) (σ : Tw) (p1 : Int32) (p2 : Int32) : Option (Int32 × Tw) := F_divides_0 (F_divides_r n) n σ p1 p2
set_option maxHeartbeats 4000000 in
set_option maxRecDepth 100000 in
theorem mt_divides (l : Launch) (dC : Nat → ClassId) (dI : Nat → Nat → Nat) (cI cZ : ClassId) (m0 : Nat) (ad : Nat → Nat) (sz : Nat) (σ : Tw) (n : Nat)  (p1 : Int32) (p2 : Int32) (out : Int32 × Tw) (hF : F_divides n σ p1 p2 = some out) : Met l yX5_divides (ws_ yX5_divides cX5_divides 4 none) ({ frames := 2, cells := 0, slots := 0, locals := 44 }) (va_Pc [.ref m0, .int p1, .int p2] (tw_Pre dC dI cI cZ m0 ad sz σ)) (va_Qv (fun u => (0, u) = out) (tw_B dC dI cI cZ m0 ad) (tw_A m0 ad sz)) 0 0 (tw_A m0 ad sz) := by
  refine Met.ofW (cc := cX5_divides) (maxL := 4) (ret := none) (by decide +kernel) rfl ?_
  intro p e s m args below meth c s₁ B hml hv
  obtain ⟨rfl, hsz, hP, hK, hD0⟩ := hv
  have hx := B.exec
  have hb := B.bytes
  have hr := B.returns
  have hts := atoms_spec (ws := (ws_ yX5_divides cX5_divides 4 none)) B.pre
  have hts : ∀ w ∈ lw_all, w.before _ s = true := fun w h => hts w (List.mem_cons_of_mem _ h)
  have hown : s.vm.findClass RX5 = some m.cls := findClass_of_methodNamed B.named
  have hlocks := B.notSynchronized
  subst hsz
  have hD := tw_Ds (z := s.heap.size) hD0
  have hAA := fun z (h : s.heap.size ≤ z) => tw_Am (m0 := m0) (ad := ad) h
  generalize hAe : tw_A m0 ad s.heap.size = A at hD hAA ⊢
  have hS : va_S A s.heap s.heap [] := va_S.rf
  have hP : va_P (dC, dI) vwCl (tw_ws m0 ad cI cZ σ) s.heap := hP
  have hl := lv_entry ([.ref m0, .int p1, .int p2]) (n := 4) (Nat.le_of_ble_eq_true rfl)
  rw [lg_entry_eq]
  generalize (lg_sl ([.ref m0, .int p1, .int p2]) ++ List.replicate (4 - (lg_sl ([.ref m0, .int p1, .int p2])).length) Slot.unset).toArray = ls at hl ⊢
  have hl : lv_has ls 4 [(0, .ref m0), (1, .int p1), (2, .int p2)] := hl
  have loop : ∀ n : Nat, (∀ (σ : Tw) (x1 x2 x3 : Int32), F_divides_r n 1 σ x1 x2 x3 = some out → ∀ (H : Heap) (locs : List Loc), va_P (dC, dI) vwCl (tw_ws m0 ad cI cZ σ) H → va_D A (tw_ws m0 ad cI cZ σ) → va_S A s.heap H locs → ∀ ls : Array Slot, lv_has ls 4 [(0, .ref m0), (1, .int x1), (2, .int x2), (3, .int x3)] → W p l e (headSpec (ws_ yX5_divides cX5_divides 4 none) ({ frames := 2, cells := 0, slots := 0, locals := 44 })).room s m ([.ref m0, .int p1, .int p2] : List Value).toArray below meth c H locs 0 0 (MQ below (va_Qv (fun u => (0, u) = out) (tw_B dC dI cI cZ m0 ad) A) ([.ref m0, .int p1, .int p2] : List Value).toArray s 0 0 A) (F0 m 2 ls [])) := by
    intro n
    induction n with
    | zero => exact (fun _ _ _ _ h => nomatch h)
    | succ n ih =>
      have lp1 := ih
      intro σ x1 x2 x3 hF H locs hP hD hS ls hl
      replace hF : F_divides_1 (F_divides_r n) n σ x1 x2 x3 = some out := hF
      unfold F_divides_1 at hF
      refine lv_iload_n hx hb dX5_divides_2 rfl (lv_at hl 3 rfl) ?_
      refine lv_bipush (v := 9) hx hb dX5_divides_3 (by decide) ?_
      refine lv_icmp_ge (tgt := 41) hx hb dX5_divides_5 (by decide) (fun c1 => ?_) (fun c1 => ?_)
      · replace hF := it_t c1 hF
        exact W.vret hx hb hr (fun t ht hW => ⟨⟨σ, rfl, Option.some.inj hF, by rw [ht]; exact hP, va_K.moved hW.alike hK⟩, hS.F ht⟩) hS.2.2 dX5_divides_41
      · replace hF := it_f c1 hF
        refine lv_aload_n hx hb dX5_divides_8 rfl (lv_at hl 0 rfl) ?_
        refine va_get (D := (dC, dI)) (ci := 0) (v := .ref (ad 24)) (C := RX5) (T := TX5) (N := 28) hx hb hts in_X5 hown hK hP 0 tw_g rfl 24 (by decide) (hts _ q2010) (fun _ h9 => h9) rfl dX5_divides_9 ?_
        refine lv_bipush (v := 9) hx hb dX5_divides_12 (by decide) ?_
        refine lv_iload_n hx hb dX5_divides_14 rfl (lv_at hl 1 rfl) ?_
        refine lv_imul hx hb dX5_divides_15 ?_
        refine lv_iload_n hx hb dX5_divides_16 rfl (lv_at hl 3 rfl) ?_
        refine lv_iadd hx hb dX5_divides_17 ?_
        refine lv_aload_n hx hb dX5_divides_18 rfl (lv_at hl 0 rfl) ?_
        refine lv_aload_n hx hb dX5_divides_19 rfl (lv_at hl 0 rfl) ?_
        refine va_get (D := (dC, dI)) (ci := 0) (v := .ref (ad 24)) (C := RX5) (T := TX5) (N := 28) hx hb hts in_X5 hown hK hP 0 tw_g rfl 24 (by decide) (hts _ q2010) (fun _ h9 => h9) rfl dX5_divides_20 ?_
        refine lv_bipush (v := 9) hx hb dX5_divides_23 (by decide) ?_
        refine lv_iload_n hx hb dX5_divides_25 rfl (lv_at hl 1 rfl) ?_
        refine lv_imul hx hb dX5_divides_26 ?_
        refine lv_iload_n hx hb dX5_divides_27 rfl (lv_at hl 3 rfl) ?_
        refine lv_iadd hx hb dX5_divides_28 ?_
        obtain ⟨g2, hF⟩ := gd_s hF
        refine va_iald hx hb hK hP 13 0 tw_e24 rfl (inB_in g2) dX5_divides_29 ?_
        refine lv_iload_n hx hb dX5_divides_30 rfl (lv_at hl 2 rfl) ?_
        obtain ⟨r3, u3, e3, hF⟩ := bnd_s hF
        refine tw_calli (va_runV (As := [.int ((σ).2 24 (((9 * x1) + x3)).toNatClampNeg), .int x2]) (rest := [.int ((9 * x1) + x3), .ref (ad 24)]) ⟨hx, hb, hml, hown, hts⟩ (mt_quotient l dC dI cI cZ m0 ad H.size σ n  ((σ).2 24 (((9 * x1) + x3)).toNatClampNeg) x2 _ e3) (cwV 2 hts (lw_V q2276 q2278 qs75 q125 q2279) rfl rfl rfl (by decide +kernel) ⟨Nat.le_of_ble_eq_true rfl, Nat.le_of_ble_eq_true rfl⟩) (tw_preV hK hP hD _) rfl rfl hl.1 rfl (lv_room (Nat.le_of_ble_eq_true rfl)) dX5_divides_31 ⟨Nat.le_of_ble_eq_true rfl, Nat.le_of_ble_eq_true rfl⟩) hS hD hAA (fun rr uu H locs hw hP hD hS => ?_)
        obtain rfl : r3 = rr := (congrArg Prod.fst hw).symm
        obtain rfl : u3 = uu := (congrArg Prod.snd hw).symm
        obtain ⟨g4, hF⟩ := gd_s hF
        refine va_iast hx hb hK hP hD hS 13 0 tw_e24 rfl (x := r3) (inB_in g4) dX5_divides_34 (fun H locs hP hD hS => ?_)
        rw [tw_s24] at hP hD
        refine lv_iinc (v := (x3 + 1)) (lv' := [(3, .int (x3 + 1)), (0, .ref m0), (1, .int x1), (2, .int x2)]) hx hb dX5_divides_35 hl (k := 3) rfl rfl (by decide) rfl (fun ls hl => ?_)
        refine lv_goto (tgt := 2) hx hb dX5_divides_38 (by decide) ?_
        exact lp1 (tw_sa u3 24 (((9 * x1) + x3)).toNatClampNeg r3) x1 x2 (x3 + 1) hF _ _ hP hD hS ls (lv_sub hl [1, 2, 3, 0] rfl)
  have lp1 := loop n
  unfold F_divides F_divides_0 at hF
  refine lv_iconst (v := 0) hx hb dX5_divides_0 (by decide) ?_
  refine lv_istore_n (lv' := [(3, .int 0), (0, .ref m0), (1, .int p1), (2, .int p2)]) hx hb dX5_divides_1 rfl hl (by decide) rfl (fun ls hl => ?_)
  exact lp1 σ p1 p2 0 hF _ _ hP hD hS ls (lv_sub hl [1, 2, 3, 0] rfl)

def F_ranks_1 (R : Nat → Tw → Int32 → Int32 → Int32 → Int32 → Int32 → Int32 → Int32 → Option (Int32 × Tw)) (n : Nat) (σ : Tw) (x1 : Int32) (x2 : Int32) (x3 : Int32) (x4 : Int32) (x5 : Int32) (x6 : Int32) (x7 : Int32) : Option (Int32 × Tw) := if x2 ≤ x4 then some (x3, σ) else R 2 σ x1 x2 x3 x4 x3 0 0
def F_ranks_2 (R : Nat → Tw → Int32 → Int32 → Int32 → Int32 → Int32 → Int32 → Int32 → Option (Int32 × Tw)) (n : Nat) (σ : Tw) (x1 : Int32) (x2 : Int32) (x3 : Int32) (x4 : Int32) (x5 : Int32) (x6 : Int32) (x7 : Int32) : Option (Int32 × Tw) := if x1 ≤ x5 then if x5 < x1 then if x5 = x3 then R 3 σ x1 x2 x3 x4 x5 0 0 else bnd (F_mod σ (-((σ).1 25))) (fun r5 u5 => R 3 (tw_sf u5 25 r5) x1 x2 x3 x4 x5 0 0) else R 1 (tw_sf σ 25 0) x1 x2 x3 (x4 + 1) x5 0 0 else gd (inB ((9 * x5) + x4) 72) (if ((σ).2 24 (((9 * x5) + x4)).toNatClampNeg) = 0 then R 2 σ x1 x2 x3 x4 (x5 + 1) 0 0 else if x5 < x1 then if x5 = x3 then R 3 σ x1 x2 x3 x4 x5 0 0 else bnd (F_mod σ (-((σ).1 25))) (fun r10 u10 => R 3 (tw_sf u10 25 r10) x1 x2 x3 x4 x5 0 0) else R 1 (tw_sf σ 25 0) x1 x2 x3 (x4 + 1) x5 0 0)
def F_ranks_3 (R : Nat → Tw → Int32 → Int32 → Int32 → Int32 → Int32 → Int32 → Int32 → Option (Int32 × Tw)) (n : Nat) (σ : Tw) (x1 : Int32) (x2 : Int32) (x3 : Int32) (x4 : Int32) (x5 : Int32) (x6 : Int32) (x7 : Int32) : Option (Int32 × Tw) := bnd (F_exchanges n σ x5 x3) (fun r11 u11 => gd (inB ((9 * x3) + x4) 72) (gd (inB 0 162) (gd (nzB ((u11).2 0 (0 : Int32).toNatClampNeg)) (bnd (F_divides n (tw_sf u11 25 ((((u11).1 25) * ((u11).2 24 (((9 * x3) + x4)).toNatClampNeg)) - (((u11).1 25) * ((u11).2 24 (((9 * x3) + x4)).toNatClampNeg)) / ((u11).2 0 (0 : Int32).toNatClampNeg) * ((u11).2 0 (0 : Int32).toNatClampNeg))) x3 ((u11).2 24 (((9 * x3) + x4)).toNatClampNeg)) (fun r15 u15 => R 4 u15 x1 x2 x3 x4 x5 ((u11).2 24 (((9 * x3) + x4)).toNatClampNeg) 0)))))
def F_ranks_4 (R : Nat → Tw → Int32 → Int32 → Int32 → Int32 → Int32 → Int32 → Int32 → Option (Int32 × Tw)) (n : Nat) (σ : Tw) (x1 : Int32) (x2 : Int32) (x3 : Int32) (x4 : Int32) (x5 : Int32) (x6 : Int32) (x7 : Int32) : Option (Int32 × Tw) := if x1 ≤ x7 then R 1 σ x1 x2 (x3 + 1) (x4 + 1) x5 x6 x7 else if x7 = x3 then R 4 σ x1 x2 x3 x4 x5 x6 (x7 + 1) else bnd (F_clears n σ x7 x3 x4) (fun r18 u18 => R 4 u18 x1 x2 x3 x4 x5 x6 (x7 + 1))
def F_ranks_r : Nat → Nat → Tw → Int32 → Int32 → Int32 → Int32 → Int32 → Int32 → Int32 → Option (Int32 × Tw)
  | 0 => fun _ _ _ _ _ _ _ _ _ => none
  | n + 1 => fun k => match k with | 1 => F_ranks_1 (F_ranks_r n) n | 2 => F_ranks_2 (F_ranks_r n) n | 3 => F_ranks_3 (F_ranks_r n) n | _ => F_ranks_4 (F_ranks_r n) n
def F_ranks_0 (R : Nat → Tw → Int32 → Int32 → Int32 → Int32 → Int32 → Int32 → Int32 → Option (Int32 × Tw)) (n : Nat) (σ : Tw) (p1 : Int32) (p2 : Int32) : Option (Int32 × Tw) := R 1 (tw_sf σ 25 1) p1 p2 0 0 0 0 0
def F_ranks (n : Nat) (σ : Tw) (p1 : Int32) (p2 : Int32) : Option (Int32 × Tw) := F_ranks_0 (F_ranks_r n) n σ p1 p2
set_option maxHeartbeats 4000000 in
set_option maxRecDepth 100000 in
theorem mt_ranks (l : Launch) (dC : Nat → ClassId) (dI : Nat → Nat → Nat) (cI cZ : ClassId) (m0 : Nat) (ad : Nat → Nat) (sz : Nat) (σ : Tw) (n : Nat)  (p1 : Int32) (p2 : Int32) (out : Int32 × Tw) (hF : F_ranks n σ p1 p2 = some out) : Met l yX5_ranks (ws_ yX5_ranks cX5_ranks 8 (some .int)) ({ frames := 3, cells := 0, slots := 0, locals := 68 }) (va_Pc [.ref m0, .int p1, .int p2] (tw_Pre dC dI cI cZ m0 ad sz σ)) (va_Qi (fun r u => (r, u) = out) (tw_B dC dI cI cZ m0 ad) (tw_A m0 ad sz)) 0 0 (tw_A m0 ad sz) := by
  refine Met.ofW (cc := cX5_ranks) (maxL := 8) (ret := (some .int)) (by decide +kernel) rfl ?_
  intro p e s m args below meth c s₁ B hml hv
  obtain ⟨rfl, hsz, hP, hK, hD0⟩ := hv
  have hx := B.exec
  have hb := B.bytes
  have hr := B.returns
  have hts := atoms_spec (ws := (ws_ yX5_ranks cX5_ranks 8 (some .int))) B.pre
  have hts : ∀ w ∈ lw_all, w.before _ s = true := fun w h => hts w (List.mem_cons_of_mem _ h)
  have hown : s.vm.findClass RX5 = some m.cls := findClass_of_methodNamed B.named
  have hlocks := B.notSynchronized
  subst hsz
  have hD := tw_Ds (z := s.heap.size) hD0
  have hAA := fun z (h : s.heap.size ≤ z) => tw_Am (m0 := m0) (ad := ad) h
  generalize hAe : tw_A m0 ad s.heap.size = A at hD hAA ⊢
  have hS : va_S A s.heap s.heap [] := va_S.rf
  have hP : va_P (dC, dI) vwCl (tw_ws m0 ad cI cZ σ) s.heap := hP
  have hl := lv_entry ([.ref m0, .int p1, .int p2]) (n := 8) (Nat.le_of_ble_eq_true rfl)
  rw [lg_entry_eq]
  generalize (lg_sl ([.ref m0, .int p1, .int p2]) ++ List.replicate (8 - (lg_sl ([.ref m0, .int p1, .int p2])).length) Slot.unset).toArray = ls at hl ⊢
  have hl : lv_has ls 8 [(0, .ref m0), (1, .int p1), (2, .int p2)] := hl
  have loop : ∀ n : Nat, (∀ (σ : Tw) (x1 x2 x3 x4 x5 x6 x7 : Int32), F_ranks_r n 1 σ x1 x2 x3 x4 x5 x6 x7 = some out → ∀ (H : Heap) (locs : List Loc), va_P (dC, dI) vwCl (tw_ws m0 ad cI cZ σ) H → va_D A (tw_ws m0 ad cI cZ σ) → va_S A s.heap H locs → ∀ ls : Array Slot, lv_has ls 8 [(0, .ref m0), (1, .int x1), (2, .int x2), (3, .int x3), (4, .int x4)] → W p l e (headSpec (ws_ yX5_ranks cX5_ranks 8 (some .int)) ({ frames := 3, cells := 0, slots := 0, locals := 68 })).room s m ([.ref m0, .int p1, .int p2] : List Value).toArray below meth c H locs 0 0 (MQ below (va_Qi (fun r u => (r, u) = out) (tw_B dC dI cI cZ m0 ad) A) ([.ref m0, .int p1, .int p2] : List Value).toArray s 0 0 A) (F0 m 10 ls [])) ∧ (∀ (σ : Tw) (x1 x2 x3 x4 x5 x6 x7 : Int32), F_ranks_r n 2 σ x1 x2 x3 x4 x5 x6 x7 = some out → ∀ (H : Heap) (locs : List Loc), va_P (dC, dI) vwCl (tw_ws m0 ad cI cZ σ) H → va_D A (tw_ws m0 ad cI cZ σ) → va_S A s.heap H locs → ∀ ls : Array Slot, lv_has ls 8 [(0, .ref m0), (1, .int x1), (2, .int x2), (3, .int x3), (4, .int x4), (5, .int x5)] → W p l e (headSpec (ws_ yX5_ranks cX5_ranks 8 (some .int)) ({ frames := 3, cells := 0, slots := 0, locals := 68 })).room s m ([.ref m0, .int p1, .int p2] : List Value).toArray below meth c H locs 0 0 (MQ below (va_Qi (fun r u => (r, u) = out) (tw_B dC dI cI cZ m0 ad) A) ([.ref m0, .int p1, .int p2] : List Value).toArray s 0 0 A) (F0 m 19 ls [])) ∧ (∀ (σ : Tw) (x1 x2 x3 x4 x5 x6 x7 : Int32), F_ranks_r n 3 σ x1 x2 x3 x4 x5 x6 x7 = some out → ∀ (H : Heap) (locs : List Loc), va_P (dC, dI) vwCl (tw_ws m0 ad cI cZ σ) H → va_D A (tw_ws m0 ad cI cZ σ) → va_S A s.heap H locs → ∀ ls : Array Slot, lv_has ls 8 [(0, .ref m0), (1, .int x1), (2, .int x2), (3, .int x3), (4, .int x4), (5, .int x5)] → W p l e (headSpec (ws_ yX5_ranks cX5_ranks 8 (some .int)) ({ frames := 3, cells := 0, slots := 0, locals := 68 })).room s m ([.ref m0, .int p1, .int p2] : List Value).toArray below meth c H locs 0 0 (MQ below (va_Qi (fun r u => (r, u) = out) (tw_B dC dI cI cZ m0 ad) A) ([.ref m0, .int p1, .int p2] : List Value).toArray s 0 0 A) (F0 m 80 ls [])) ∧ (∀ (σ : Tw) (x1 x2 x3 x4 x5 x6 x7 : Int32), F_ranks_r n 4 σ x1 x2 x3 x4 x5 x6 x7 = some out → ∀ (H : Heap) (locs : List Loc), va_P (dC, dI) vwCl (tw_ws m0 ad cI cZ σ) H → va_D A (tw_ws m0 ad cI cZ σ) → va_S A s.heap H locs → ∀ ls : Array Slot, lv_has ls 8 [(0, .ref m0), (1, .int x1), (2, .int x2), (3, .int x3), (4, .int x4), (5, .int x5), (6, .int x6), (7, .int x7)] → W p l e (headSpec (ws_ yX5_ranks cX5_ranks 8 (some .int)) ({ frames := 3, cells := 0, slots := 0, locals := 68 })).room s m ([.ref m0, .int p1, .int p2] : List Value).toArray below meth c H locs 0 0 (MQ below (va_Qi (fun r u => (r, u) = out) (tw_B dC dI cI cZ m0 ad) A) ([.ref m0, .int p1, .int p2] : List Value).toArray s 0 0 A) (F0 m 129 ls [])) := by
    intro n
    induction n with
    | zero => exact ⟨(fun _ _ _ _ _ _ _ _ h => nomatch h), (fun _ _ _ _ _ _ _ _ h => nomatch h), (fun _ _ _ _ _ _ _ _ h => nomatch h), (fun _ _ _ _ _ _ _ _ h => nomatch h)⟩
    | succ n ih =>
      obtain ⟨lp1, lp2, lp3, lp4⟩ := ih
      refine ⟨?_, ?_, ?_, ?_⟩
      · intro σ x1 x2 x3 x4 x5 x6 x7 hF H locs hP hD hS ls hl
        replace hF : F_ranks_1 (F_ranks_r n) n σ x1 x2 x3 x4 x5 x6 x7 = some out := hF
        unfold F_ranks_1 at hF
        refine lv_iload hx hb dX5_ranks_10 (lv_at hl 4 rfl) ?_
        refine lv_iload_n hx hb dX5_ranks_12 rfl (lv_at hl 2 rfl) ?_
        refine lv_icmp_ge (tgt := 165) hx hb dX5_ranks_13 (by decide) (fun c1 => ?_) (fun c1 => ?_)
        · replace hF := it_t c1 hF
          refine lv_iload_n hx hb dX5_ranks_165 rfl (lv_at hl 3 rfl) ?_
          exact W.iret (v := x3) hx hb hr (fun t ht hW => ⟨⟨x3, σ, rfl, Option.some.inj hF, by rw [ht]; exact hP, va_K.moved hW.alike hK⟩, hS.F ht⟩) hS.2.2 dX5_ranks_166
        · replace hF := it_f c1 hF
          refine lv_iload_n hx hb dX5_ranks_16 rfl (lv_at hl 3 rfl) ?_
          refine lv_istore (lv' := [(5, .int x3), (0, .ref m0), (1, .int x1), (2, .int x2), (3, .int x3), (4, .int x4)]) hx hb dX5_ranks_17 hl (by decide) rfl (fun ls hl => ?_)
          exact lp2 σ x1 x2 x3 x4 x3 0 0 hF _ _ hP hD hS ls (lv_sub hl [1, 2, 3, 4, 5, 0] rfl)
      · intro σ x1 x2 x3 x4 x5 x6 x7 hF H locs hP hD hS ls hl
        replace hF : F_ranks_2 (F_ranks_r n) n σ x1 x2 x3 x4 x5 x6 x7 = some out := hF
        unfold F_ranks_2 at hF
        refine lv_iload hx hb dX5_ranks_19 (lv_at hl 5 rfl) ?_
        refine lv_iload_n hx hb dX5_ranks_21 rfl (lv_at hl 1 rfl) ?_
        refine lv_icmp_ge (tgt := 47) hx hb dX5_ranks_22 (by decide) (fun c2 => ?_) (fun c2 => ?_)
        · replace hF := it_t c2 hF
          refine lv_iload hx hb dX5_ranks_47 (lv_at hl 5 rfl) ?_
          refine lv_iload_n hx hb dX5_ranks_49 rfl (lv_at hl 1 rfl) ?_
          refine lv_icmp_lt (tgt := 61) hx hb dX5_ranks_50 (by decide) (fun c3 => ?_) (fun c3 => ?_)
          · replace hF := it_t c3 hF
            refine lv_iload hx hb dX5_ranks_61 (lv_at hl 5 rfl) ?_
            refine lv_iload_n hx hb dX5_ranks_63 rfl (lv_at hl 3 rfl) ?_
            refine lv_icmp_eq (tgt := 80) hx hb dX5_ranks_64 (by decide) (fun c4 => ?_) (fun c4 => ?_)
            · replace hF := it_t c4 hF
              exact lp3 σ x1 x2 x3 x4 x5 0 0 hF _ _ hP hD hS ls (lv_sub hl [0, 1, 2, 3, 4, 5] rfl)
            · replace hF := it_f c4 hF
              refine lv_aload_n hx hb dX5_ranks_67 rfl (lv_at hl 0 rfl) ?_
              refine lv_aload_n hx hb dX5_ranks_68 rfl (lv_at hl 0 rfl) ?_
              refine lv_aload_n hx hb dX5_ranks_69 rfl (lv_at hl 0 rfl) ?_
              refine va_get (D := (dC, dI)) (ci := 0) (v := .int ((σ).1 25)) (C := RX5) (T := TX5) (N := 28) hx hb hts in_X5 hown hK hP 0 tw_g rfl 25 (by decide) (hts _ q2011) (fun _ h9 => h9) rfl dX5_ranks_70 ?_
              refine lv_ineg hx hb dX5_ranks_73 ?_
              obtain ⟨r5, u5, e5, hF⟩ := bnd_s hF
              refine tw_calli (va_runV (As := [.int (-((σ).1 25))]) (rest := [.ref m0]) ⟨hx, hb, hml, hown, hts⟩ (mt_mod l dC dI cI cZ m0 ad H.size σ  (-((σ).1 25)) _ e5) (cwV 1 hts (lw_V q2253 q2255 qs70 q125 q2256) rfl rfl rfl (by decide +kernel) ⟨Nat.le_of_ble_eq_true rfl, Nat.le_of_ble_eq_true rfl⟩) (tw_preV hK hP hD _) rfl rfl hl.1 rfl (lv_room (Nat.le_of_ble_eq_true rfl)) dX5_ranks_74 ⟨Nat.le_of_ble_eq_true rfl, Nat.le_of_ble_eq_true rfl⟩) hS hD hAA (fun rr uu H locs hw hP hD hS => ?_)
              obtain rfl : r5 = rr := (congrArg Prod.fst hw).symm
              obtain rfl : u5 = uu := (congrArg Prod.snd hw).symm
              refine va_put (D := (dC, dI)) (ci := 0) (v := .int r5) (ty := .int) (C := RX5) (T := TX5) (N := 28) hx hb hts in_X5 tyX5 tyX5_ok nmX5 hown hK hP hD hS 0 tw_g rfl 25 (by decide) (hts _ q2011) (fun _ h9 => h9) rfl (tyX5_ok 25 (by decide)) rfl rfl (Nat.le_of_ble_eq_true rfl) dX5_ranks_77 (fun H locs hP hD hS => ?_)
              rw [tw_p25] at hP hD
              exact lp3 (tw_sf u5 25 r5) x1 x2 x3 x4 x5 0 0 hF _ _ hP hD hS ls (lv_sub hl [0, 1, 2, 3, 4, 5] rfl)
          · replace hF := it_f c3 hF
            refine lv_aload_n hx hb dX5_ranks_53 rfl (lv_at hl 0 rfl) ?_
            refine lv_iconst (v := 0) hx hb dX5_ranks_54 (by decide) ?_
            refine va_put (D := (dC, dI)) (ci := 0) (v := .int 0) (ty := .int) (C := RX5) (T := TX5) (N := 28) hx hb hts in_X5 tyX5 tyX5_ok nmX5 hown hK hP hD hS 0 tw_g rfl 25 (by decide) (hts _ q2011) (fun _ h9 => h9) rfl (tyX5_ok 25 (by decide)) rfl rfl (Nat.le_of_ble_eq_true rfl) dX5_ranks_55 (fun H locs hP hD hS => ?_)
            rw [tw_p25] at hP hD
            refine lv_goto (tgt := 159) hx hb dX5_ranks_58 (by decide) ?_
            refine lv_iinc (v := (x4 + 1)) (lv' := [(4, .int (x4 + 1)), (0, .ref m0), (1, .int x1), (2, .int x2), (3, .int x3), (5, .int x5)]) hx hb dX5_ranks_159 hl (k := 4) rfl rfl (by decide) rfl (fun ls hl => ?_)
            refine lv_goto (tgt := 10) hx hb dX5_ranks_162 (by decide) ?_
            exact lp1 (tw_sf σ 25 0) x1 x2 x3 (x4 + 1) x5 0 0 hF _ _ hP hD hS ls (lv_sub hl [1, 2, 3, 4, 0] rfl)
        · replace hF := it_f c2 hF
          refine lv_aload_n hx hb dX5_ranks_25 rfl (lv_at hl 0 rfl) ?_
          refine va_get (D := (dC, dI)) (ci := 0) (v := .ref (ad 24)) (C := RX5) (T := TX5) (N := 28) hx hb hts in_X5 hown hK hP 0 tw_g rfl 24 (by decide) (hts _ q2010) (fun _ h9 => h9) rfl dX5_ranks_26 ?_
          refine lv_bipush (v := 9) hx hb dX5_ranks_29 (by decide) ?_
          refine lv_iload hx hb dX5_ranks_31 (lv_at hl 5 rfl) ?_
          refine lv_imul hx hb dX5_ranks_33 ?_
          refine lv_iload hx hb dX5_ranks_34 (lv_at hl 4 rfl) ?_
          refine lv_iadd hx hb dX5_ranks_36 ?_
          obtain ⟨g6, hF⟩ := gd_s hF
          refine va_iald hx hb hK hP 13 0 tw_e24 rfl (inB_in g6) dX5_ranks_37 ?_
          refine lv_if_ne (tgt := 47) hx hb dX5_ranks_38 (by decide) (fun c7 => ?_) (fun c7 => ?_)
          · replace hF := it_f c7 hF
            refine lv_iload hx hb dX5_ranks_47 (lv_at hl 5 rfl) ?_
            refine lv_iload_n hx hb dX5_ranks_49 rfl (lv_at hl 1 rfl) ?_
            refine lv_icmp_lt (tgt := 61) hx hb dX5_ranks_50 (by decide) (fun c8 => ?_) (fun c8 => ?_)
            · replace hF := it_t c8 hF
              refine lv_iload hx hb dX5_ranks_61 (lv_at hl 5 rfl) ?_
              refine lv_iload_n hx hb dX5_ranks_63 rfl (lv_at hl 3 rfl) ?_
              refine lv_icmp_eq (tgt := 80) hx hb dX5_ranks_64 (by decide) (fun c9 => ?_) (fun c9 => ?_)
              · replace hF := it_t c9 hF
                exact lp3 σ x1 x2 x3 x4 x5 0 0 hF _ _ hP hD hS ls (lv_sub hl [0, 1, 2, 3, 4, 5] rfl)
              · replace hF := it_f c9 hF
                refine lv_aload_n hx hb dX5_ranks_67 rfl (lv_at hl 0 rfl) ?_
                refine lv_aload_n hx hb dX5_ranks_68 rfl (lv_at hl 0 rfl) ?_
                refine lv_aload_n hx hb dX5_ranks_69 rfl (lv_at hl 0 rfl) ?_
                refine va_get (D := (dC, dI)) (ci := 0) (v := .int ((σ).1 25)) (C := RX5) (T := TX5) (N := 28) hx hb hts in_X5 hown hK hP 0 tw_g rfl 25 (by decide) (hts _ q2011) (fun _ h9 => h9) rfl dX5_ranks_70 ?_
                refine lv_ineg hx hb dX5_ranks_73 ?_
                obtain ⟨r10, u10, e10, hF⟩ := bnd_s hF
                refine tw_calli (va_runV (As := [.int (-((σ).1 25))]) (rest := [.ref m0]) ⟨hx, hb, hml, hown, hts⟩ (mt_mod l dC dI cI cZ m0 ad H.size σ  (-((σ).1 25)) _ e10) (cwV 1 hts (lw_V q2253 q2255 qs70 q125 q2256) rfl rfl rfl (by decide +kernel) ⟨Nat.le_of_ble_eq_true rfl, Nat.le_of_ble_eq_true rfl⟩) (tw_preV hK hP hD _) rfl rfl hl.1 rfl (lv_room (Nat.le_of_ble_eq_true rfl)) dX5_ranks_74 ⟨Nat.le_of_ble_eq_true rfl, Nat.le_of_ble_eq_true rfl⟩) hS hD hAA (fun rr uu H locs hw hP hD hS => ?_)
                obtain rfl : r10 = rr := (congrArg Prod.fst hw).symm
                obtain rfl : u10 = uu := (congrArg Prod.snd hw).symm
                refine va_put (D := (dC, dI)) (ci := 0) (v := .int r10) (ty := .int) (C := RX5) (T := TX5) (N := 28) hx hb hts in_X5 tyX5 tyX5_ok nmX5 hown hK hP hD hS 0 tw_g rfl 25 (by decide) (hts _ q2011) (fun _ h9 => h9) rfl (tyX5_ok 25 (by decide)) rfl rfl (Nat.le_of_ble_eq_true rfl) dX5_ranks_77 (fun H locs hP hD hS => ?_)
                rw [tw_p25] at hP hD
                exact lp3 (tw_sf u10 25 r10) x1 x2 x3 x4 x5 0 0 hF _ _ hP hD hS ls (lv_sub hl [0, 1, 2, 3, 4, 5] rfl)
            · replace hF := it_f c8 hF
              refine lv_aload_n hx hb dX5_ranks_53 rfl (lv_at hl 0 rfl) ?_
              refine lv_iconst (v := 0) hx hb dX5_ranks_54 (by decide) ?_
              refine va_put (D := (dC, dI)) (ci := 0) (v := .int 0) (ty := .int) (C := RX5) (T := TX5) (N := 28) hx hb hts in_X5 tyX5 tyX5_ok nmX5 hown hK hP hD hS 0 tw_g rfl 25 (by decide) (hts _ q2011) (fun _ h9 => h9) rfl (tyX5_ok 25 (by decide)) rfl rfl (Nat.le_of_ble_eq_true rfl) dX5_ranks_55 (fun H locs hP hD hS => ?_)
              rw [tw_p25] at hP hD
              refine lv_goto (tgt := 159) hx hb dX5_ranks_58 (by decide) ?_
              refine lv_iinc (v := (x4 + 1)) (lv' := [(4, .int (x4 + 1)), (0, .ref m0), (1, .int x1), (2, .int x2), (3, .int x3), (5, .int x5)]) hx hb dX5_ranks_159 hl (k := 4) rfl rfl (by decide) rfl (fun ls hl => ?_)
              refine lv_goto (tgt := 10) hx hb dX5_ranks_162 (by decide) ?_
              exact lp1 (tw_sf σ 25 0) x1 x2 x3 (x4 + 1) x5 0 0 hF _ _ hP hD hS ls (lv_sub hl [1, 2, 3, 4, 0] rfl)
          · replace hF := it_t c7 hF
            refine lv_iinc (v := (x5 + 1)) (lv' := [(5, .int (x5 + 1)), (0, .ref m0), (1, .int x1), (2, .int x2), (3, .int x3), (4, .int x4)]) hx hb dX5_ranks_41 hl (k := 5) rfl rfl (by decide) rfl (fun ls hl => ?_)
            refine lv_goto (tgt := 19) hx hb dX5_ranks_44 (by decide) ?_
            exact lp2 σ x1 x2 x3 x4 (x5 + 1) 0 0 hF _ _ hP hD hS ls (lv_sub hl [1, 2, 3, 4, 5, 0] rfl)
      · intro σ x1 x2 x3 x4 x5 x6 x7 hF H locs hP hD hS ls hl
        replace hF : F_ranks_3 (F_ranks_r n) n σ x1 x2 x3 x4 x5 x6 x7 = some out := hF
        unfold F_ranks_3 at hF
        refine lv_aload_n hx hb dX5_ranks_80 rfl (lv_at hl 0 rfl) ?_
        refine lv_iload hx hb dX5_ranks_81 (lv_at hl 5 rfl) ?_
        refine lv_iload_n hx hb dX5_ranks_83 rfl (lv_at hl 3 rfl) ?_
        obtain ⟨r11, u11, e11, hF⟩ := bnd_s hF
        refine tw_callv (va_runV (As := [.int x5, .int x3]) (rest := []) ⟨hx, hb, hml, hown, hts⟩ (mt_exchanges l dC dI cI cZ m0 ad H.size σ n  x5 x3 _ e11) (cwV 2 hts (lw_V q2388 q2390 qs91 q125 q2391) rfl rfl rfl (by decide +kernel) ⟨Nat.le_of_ble_eq_true rfl, Nat.le_of_ble_eq_true rfl⟩) (tw_preV hK hP hD _) rfl rfl hl.1 rfl (lv_room (Nat.le_of_ble_eq_true rfl)) dX5_ranks_84 ⟨Nat.le_of_ble_eq_true rfl, Nat.le_of_ble_eq_true rfl⟩) hS hD hAA (fun uu H locs hw hP hD hS => ?_)
        obtain rfl : u11 = uu := (congrArg Prod.snd hw).symm
        refine lv_aload_n hx hb dX5_ranks_87 rfl (lv_at hl 0 rfl) ?_
        refine va_get (D := (dC, dI)) (ci := 0) (v := .ref (ad 24)) (C := RX5) (T := TX5) (N := 28) hx hb hts in_X5 hown hK hP 0 tw_g rfl 24 (by decide) (hts _ q2010) (fun _ h9 => h9) rfl dX5_ranks_88 ?_
        refine lv_bipush (v := 9) hx hb dX5_ranks_91 (by decide) ?_
        refine lv_iload_n hx hb dX5_ranks_93 rfl (lv_at hl 3 rfl) ?_
        refine lv_imul hx hb dX5_ranks_94 ?_
        refine lv_iload hx hb dX5_ranks_95 (lv_at hl 4 rfl) ?_
        refine lv_iadd hx hb dX5_ranks_97 ?_
        obtain ⟨g12, hF⟩ := gd_s hF
        refine va_iald hx hb hK hP 13 0 tw_e24 rfl (inB_in g12) dX5_ranks_98 ?_
        refine lv_istore (lv' := [(6, .int ((u11).2 24 (((9 * x3) + x4)).toNatClampNeg)), (0, .ref m0), (1, .int x1), (2, .int x2), (3, .int x3), (4, .int x4), (5, .int x5)]) hx hb dX5_ranks_99 hl (by decide) rfl (fun ls hl => ?_)
        refine lv_aload_n hx hb dX5_ranks_101 rfl (lv_at hl 1 rfl) ?_
        refine lv_aload_n hx hb dX5_ranks_102 rfl (lv_at hl 1 rfl) ?_
        refine va_get (D := (dC, dI)) (ci := 0) (v := .int ((u11).1 25)) (C := RX5) (T := TX5) (N := 28) hx hb hts in_X5 hown hK hP 0 tw_g rfl 25 (by decide) (hts _ q2011) (fun _ h9 => h9) rfl dX5_ranks_103 ?_
        refine lv_iload hx hb dX5_ranks_106 (lv_at hl 0 rfl) ?_
        refine lv_imul hx hb dX5_ranks_108 ?_
        refine lv_aload_n hx hb dX5_ranks_109 rfl (lv_at hl 1 rfl) ?_
        refine va_get (D := (dC, dI)) (ci := 0) (v := .ref (ad 0)) (C := RX5) (T := TX5) (N := 28) hx hb hts in_X5 hown hK hP 0 tw_g rfl 0 (by decide) (hts _ q1986) (fun _ h9 => h9) rfl dX5_ranks_110 ?_
        refine lv_iconst (v := 0) hx hb dX5_ranks_113 (by decide) ?_
        obtain ⟨g13, hF⟩ := gd_s hF
        refine va_iald hx hb hK hP 1 0 tw_e0 rfl (inB_in g13) dX5_ranks_114 ?_
        obtain ⟨g14, hF⟩ := gd_s hF
        refine lv_irem hx hb dX5_ranks_115 (nz_of g14) ?_
        refine va_put (D := (dC, dI)) (ci := 0) (v := .int ((((u11).1 25) * ((u11).2 24 (((9 * x3) + x4)).toNatClampNeg)) - (((u11).1 25) * ((u11).2 24 (((9 * x3) + x4)).toNatClampNeg)) / ((u11).2 0 (0 : Int32).toNatClampNeg) * ((u11).2 0 (0 : Int32).toNatClampNeg))) (ty := .int) (C := RX5) (T := TX5) (N := 28) hx hb hts in_X5 tyX5 tyX5_ok nmX5 hown hK hP hD hS 0 tw_g rfl 25 (by decide) (hts _ q2011) (fun _ h9 => h9) rfl (tyX5_ok 25 (by decide)) rfl rfl (Nat.le_of_ble_eq_true rfl) dX5_ranks_116 (fun H locs hP hD hS => ?_)
        rw [tw_p25] at hP hD
        refine lv_aload_n hx hb dX5_ranks_119 rfl (lv_at hl 1 rfl) ?_
        refine lv_iload_n hx hb dX5_ranks_120 rfl (lv_at hl 4 rfl) ?_
        refine lv_iload hx hb dX5_ranks_121 (lv_at hl 0 rfl) ?_
        obtain ⟨r15, u15, e15, hF⟩ := bnd_s hF
        refine tw_callv (va_runV (As := [.int x3, .int ((u11).2 24 (((9 * x3) + x4)).toNatClampNeg)]) (rest := []) ⟨hx, hb, hml, hown, hts⟩ (mt_divides l dC dI cI cZ m0 ad H.size (tw_sf u11 25 ((((u11).1 25) * ((u11).2 24 (((9 * x3) + x4)).toNatClampNeg)) - (((u11).1 25) * ((u11).2 24 (((9 * x3) + x4)).toNatClampNeg)) / ((u11).2 0 (0 : Int32).toNatClampNeg) * ((u11).2 0 (0 : Int32).toNatClampNeg))) n  x3 ((u11).2 24 (((9 * x3) + x4)).toNatClampNeg) _ e15) (cwV 2 hts (lw_V q2392 q2394 qs92 q125 q2395) rfl rfl rfl (by decide +kernel) ⟨Nat.le_of_ble_eq_true rfl, Nat.le_of_ble_eq_true rfl⟩) (tw_preV hK hP hD _) rfl rfl hl.1 rfl (lv_room (Nat.le_of_ble_eq_true rfl)) dX5_ranks_123 ⟨Nat.le_of_ble_eq_true rfl, Nat.le_of_ble_eq_true rfl⟩) hS hD hAA (fun uu H locs hw hP hD hS => ?_)
        obtain rfl : u15 = uu := (congrArg Prod.snd hw).symm
        refine lv_iconst (v := 0) hx hb dX5_ranks_126 (by decide) ?_
        refine lv_istore (lv' := [(7, .int 0), (6, .int ((u11).2 24 (((9 * x3) + x4)).toNatClampNeg)), (0, .ref m0), (1, .int x1), (2, .int x2), (3, .int x3), (4, .int x4), (5, .int x5)]) hx hb dX5_ranks_127 hl (by decide) rfl (fun ls hl => ?_)
        exact lp4 u15 x1 x2 x3 x4 x5 ((u11).2 24 (((9 * x3) + x4)).toNatClampNeg) 0 hF _ _ hP hD hS ls (lv_sub hl [2, 3, 4, 5, 6, 7, 1, 0] rfl)
      · intro σ x1 x2 x3 x4 x5 x6 x7 hF H locs hP hD hS ls hl
        replace hF : F_ranks_4 (F_ranks_r n) n σ x1 x2 x3 x4 x5 x6 x7 = some out := hF
        unfold F_ranks_4 at hF
        refine lv_iload hx hb dX5_ranks_129 (lv_at hl 7 rfl) ?_
        refine lv_iload_n hx hb dX5_ranks_131 rfl (lv_at hl 1 rfl) ?_
        refine lv_icmp_ge (tgt := 156) hx hb dX5_ranks_132 (by decide) (fun c16 => ?_) (fun c16 => ?_)
        · replace hF := it_t c16 hF
          refine lv_iinc (v := (x3 + 1)) (lv' := [(3, .int (x3 + 1)), (0, .ref m0), (1, .int x1), (2, .int x2), (4, .int x4), (5, .int x5), (6, .int x6), (7, .int x7)]) hx hb dX5_ranks_156 hl (k := 3) rfl rfl (by decide) rfl (fun ls hl => ?_)
          refine lv_iinc (v := (x4 + 1)) (lv' := [(4, .int (x4 + 1)), (3, .int (x3 + 1)), (0, .ref m0), (1, .int x1), (2, .int x2), (5, .int x5), (6, .int x6), (7, .int x7)]) hx hb dX5_ranks_159 hl (k := 4) rfl rfl (by decide) rfl (fun ls hl => ?_)
          refine lv_goto (tgt := 10) hx hb dX5_ranks_162 (by decide) ?_
          exact lp1 σ x1 x2 (x3 + 1) (x4 + 1) x5 x6 x7 hF _ _ hP hD hS ls (lv_sub hl [2, 3, 4, 1, 0] rfl)
        · replace hF := it_f c16 hF
          refine lv_iload hx hb dX5_ranks_135 (lv_at hl 7 rfl) ?_
          refine lv_iload_n hx hb dX5_ranks_137 rfl (lv_at hl 3 rfl) ?_
          refine lv_icmp_eq (tgt := 150) hx hb dX5_ranks_138 (by decide) (fun c17 => ?_) (fun c17 => ?_)
          · replace hF := it_t c17 hF
            refine lv_iinc (v := (x7 + 1)) (lv' := [(7, .int (x7 + 1)), (0, .ref m0), (1, .int x1), (2, .int x2), (3, .int x3), (4, .int x4), (5, .int x5), (6, .int x6)]) hx hb dX5_ranks_150 hl (k := 7) rfl rfl (by decide) rfl (fun ls hl => ?_)
            refine lv_goto (tgt := 129) hx hb dX5_ranks_153 (by decide) ?_
            exact lp4 σ x1 x2 x3 x4 x5 x6 (x7 + 1) hF _ _ hP hD hS ls (lv_sub hl [1, 2, 3, 4, 5, 6, 7, 0] rfl)
          · replace hF := it_f c17 hF
            refine lv_aload_n hx hb dX5_ranks_141 rfl (lv_at hl 0 rfl) ?_
            refine lv_iload hx hb dX5_ranks_142 (lv_at hl 7 rfl) ?_
            refine lv_iload_n hx hb dX5_ranks_144 rfl (lv_at hl 3 rfl) ?_
            refine lv_iload hx hb dX5_ranks_145 (lv_at hl 4 rfl) ?_
            obtain ⟨r18, u18, e18, hF⟩ := bnd_s hF
            refine tw_callv (va_runV (As := [.int x7, .int x3, .int x4]) (rest := []) ⟨hx, hb, hml, hown, hts⟩ (mt_clears l dC dI cI cZ m0 ad H.size σ n  x7 x3 x4 _ e18) (cwV 3 hts (lw_V q2396 q2398 qs93 q125 q2399) rfl rfl rfl (by decide +kernel) ⟨Nat.le_of_ble_eq_true rfl, Nat.le_of_ble_eq_true rfl⟩) (tw_preV hK hP hD _) rfl rfl hl.1 rfl (lv_room (Nat.le_of_ble_eq_true rfl)) dX5_ranks_147 ⟨Nat.le_of_ble_eq_true rfl, Nat.le_of_ble_eq_true rfl⟩) hS hD hAA (fun uu H locs hw hP hD hS => ?_)
            obtain rfl : u18 = uu := (congrArg Prod.snd hw).symm
            refine lv_iinc (v := (x7 + 1)) (lv' := [(7, .int (x7 + 1)), (0, .ref m0), (1, .int x1), (2, .int x2), (3, .int x3), (4, .int x4), (5, .int x5), (6, .int x6)]) hx hb dX5_ranks_150 hl (k := 7) rfl rfl (by decide) rfl (fun ls hl => ?_)
            refine lv_goto (tgt := 129) hx hb dX5_ranks_153 (by decide) ?_
            exact lp4 u18 x1 x2 x3 x4 x5 x6 (x7 + 1) hF _ _ hP hD hS ls (lv_sub hl [1, 2, 3, 4, 5, 6, 7, 0] rfl)
  obtain ⟨lp1, lp2, lp3, lp4⟩ := loop n
  unfold F_ranks F_ranks_0 at hF
  refine lv_iconst (v := 0) hx hb dX5_ranks_0 (by decide) ?_
  refine lv_istore_n (lv' := [(3, .int 0), (0, .ref m0), (1, .int p1), (2, .int p2)]) hx hb dX5_ranks_1 rfl hl (by decide) rfl (fun ls hl => ?_)
  refine lv_aload_n hx hb dX5_ranks_2 rfl (lv_at hl 1 rfl) ?_
  refine lv_iconst (v := 1) hx hb dX5_ranks_3 (by decide) ?_
  refine va_put (D := (dC, dI)) (ci := 0) (v := .int 1) (ty := .int) (C := RX5) (T := TX5) (N := 28) hx hb hts in_X5 tyX5 tyX5_ok nmX5 hown hK hP hD hS 0 tw_g rfl 25 (by decide) (hts _ q2011) (fun _ h9 => h9) rfl (tyX5_ok 25 (by decide)) rfl rfl (Nat.le_of_ble_eq_true rfl) dX5_ranks_4 (fun H locs hP hD hS => ?_)
  rw [tw_p25] at hP hD
  refine lv_iconst (v := 0) hx hb dX5_ranks_7 (by decide) ?_
  refine lv_istore (lv' := [(4, .int 0), (3, .int 0), (0, .ref m0), (1, .int p1), (2, .int p2)]) hx hb dX5_ranks_8 hl (by decide) rfl (fun ls hl => ?_)
  exact lp1 (tw_sf σ 25 1) p1 p2 0 0 0 0 0 hF _ _ hP hD hS ls (lv_sub hl [2, 3, 4, 1, 0] rfl)

def F_rank_1 (R : Nat → Tw → Int32 → Int32 → Option (Int32 × Tw)) (n : Nat) (σ : Tw) (x1 : Int32) (x2 : Int32) : Option (Int32 × Tw) := gd (inB 5 162) (if ((σ).2 0 (5 : Int32).toNatClampNeg) ≤ x1 then gd (inB 5 162) (gd (inB 1 162) (bnd (F_ranks n σ ((σ).2 0 (5 : Int32).toNatClampNeg) ((σ).2 0 (1 : Int32).toNatClampNeg)) (fun r5 u5 => some (r5, u5)))) else R 2 σ x1 0)
def F_rank_2 (R : Nat → Tw → Int32 → Int32 → Option (Int32 × Tw)) (n : Nat) (σ : Tw) (x1 : Int32) (x2 : Int32) : Option (Int32 × Tw) := if 9 ≤ x2 then R 1 σ (x1 + 1) x2 else gd (inB 1 162) (if ((σ).2 0 (1 : Int32).toNatClampNeg) ≤ x2 then gd (inB ((9 * x1) + x2) 72) (R 2 (tw_sa σ 24 (((9 * x1) + x2)).toNatClampNeg 0) x1 (x2 + 1)) else bnd (F_wayOf σ x1 x2) (fun r10 u10 => gd (inB ((9 * x1) + x2) 72) (R 2 (tw_sa u10 24 (((9 * x1) + x2)).toNatClampNeg r10) x1 (x2 + 1))))
def F_rank_r : Nat → Nat → Tw → Int32 → Int32 → Option (Int32 × Tw)
  | 0 => fun _ _ _ _ => none
  | n + 1 => fun k => match k with | 1 => F_rank_1 (F_rank_r n) n | _ => F_rank_2 (F_rank_r n) n
def F_rank_0 (R : Nat → Tw → Int32 → Int32 → Option (Int32 × Tw)) (n : Nat) (σ : Tw) : Option (Int32 × Tw) := R 1 (tw_sf σ 6 0) 0 0
def F_rank (n : Nat) (σ : Tw) : Option (Int32 × Tw) := F_rank_0 (F_rank_r n) n σ 
set_option maxHeartbeats 4000000 in
set_option maxRecDepth 100000 in
theorem mt_rank (l : Launch) (dC : Nat → ClassId) (dI : Nat → Nat → Nat) (cI cZ : ClassId) (m0 : Nat) (ad : Nat → Nat) (sz : Nat) (σ : Tw) (n : Nat)  (out : Int32 × Tw) (hF : F_rank n σ  = some out) : Met l yX5_rank (ws_ yX5_rank cX5_rank 3 (some .int)) ({ frames := 4, cells := 0, slots := 0, locals := 95 }) (va_Pc [.ref m0] (tw_Pre dC dI cI cZ m0 ad sz σ)) (va_Qi (fun r u => (r, u) = out) (tw_B dC dI cI cZ m0 ad) (tw_A m0 ad sz)) 0 0 (tw_A m0 ad sz) := by
  refine Met.ofW (cc := cX5_rank) (maxL := 3) (ret := (some .int)) (by decide +kernel) rfl ?_
  intro p e s m args below meth c s₁ B hml hv
  obtain ⟨rfl, hsz, hP, hK, hD0⟩ := hv
  have hx := B.exec
  have hb := B.bytes
  have hr := B.returns
  have hts := atoms_spec (ws := (ws_ yX5_rank cX5_rank 3 (some .int))) B.pre
  have hts : ∀ w ∈ lw_all, w.before _ s = true := fun w h => hts w (List.mem_cons_of_mem _ h)
  have hown : s.vm.findClass RX5 = some m.cls := findClass_of_methodNamed B.named
  have hlocks := B.notSynchronized
  subst hsz
  have hD := tw_Ds (z := s.heap.size) hD0
  have hAA := fun z (h : s.heap.size ≤ z) => tw_Am (m0 := m0) (ad := ad) h
  generalize hAe : tw_A m0 ad s.heap.size = A at hD hAA ⊢
  have hS : va_S A s.heap s.heap [] := va_S.rf
  have hP : va_P (dC, dI) vwCl (tw_ws m0 ad cI cZ σ) s.heap := hP
  have hl := lv_entry ([.ref m0]) (n := 3) (Nat.le_of_ble_eq_true rfl)
  rw [lg_entry_eq]
  generalize (lg_sl ([.ref m0]) ++ List.replicate (3 - (lg_sl ([.ref m0])).length) Slot.unset).toArray = ls at hl ⊢
  have hl : lv_has ls 3 [(0, .ref m0)] := hl
  have loop : ∀ n : Nat, (∀ (σ : Tw) (x1 x2 : Int32), F_rank_r n 1 σ x1 x2 = some out → ∀ (H : Heap) (locs : List Loc), va_P (dC, dI) vwCl (tw_ws m0 ad cI cZ σ) H → va_D A (tw_ws m0 ad cI cZ σ) → va_S A s.heap H locs → ∀ ls : Array Slot, lv_has ls 3 [(0, .ref m0), (1, .int x1)] → W p l e (headSpec (ws_ yX5_rank cX5_rank 3 (some .int)) ({ frames := 4, cells := 0, slots := 0, locals := 95 })).room s m ([.ref m0] : List Value).toArray below meth c H locs 0 0 (MQ below (va_Qi (fun r u => (r, u) = out) (tw_B dC dI cI cZ m0 ad) A) ([.ref m0] : List Value).toArray s 0 0 A) (F0 m 7 ls [])) ∧ (∀ (σ : Tw) (x1 x2 : Int32), F_rank_r n 2 σ x1 x2 = some out → ∀ (H : Heap) (locs : List Loc), va_P (dC, dI) vwCl (tw_ws m0 ad cI cZ σ) H → va_D A (tw_ws m0 ad cI cZ σ) → va_S A s.heap H locs → ∀ ls : Array Slot, lv_has ls 3 [(0, .ref m0), (1, .int x1), (2, .int x2)] → W p l e (headSpec (ws_ yX5_rank cX5_rank 3 (some .int)) ({ frames := 4, cells := 0, slots := 0, locals := 95 })).room s m ([.ref m0] : List Value).toArray below meth c H locs 0 0 (MQ below (va_Qi (fun r u => (r, u) = out) (tw_B dC dI cI cZ m0 ad) A) ([.ref m0] : List Value).toArray s 0 0 A) (F0 m 19 ls [])) := by
    intro n
    induction n with
    | zero => exact ⟨(fun _ _ _ h => nomatch h), (fun _ _ _ h => nomatch h)⟩
    | succ n ih =>
      obtain ⟨lp1, lp2⟩ := ih
      refine ⟨?_, ?_⟩
      · intro σ x1 x2 hF H locs hP hD hS ls hl
        replace hF : F_rank_1 (F_rank_r n) n σ x1 x2 = some out := hF
        unfold F_rank_1 at hF
        refine lv_iload_n hx hb dX5_rank_7 rfl (lv_at hl 1 rfl) ?_
        refine lv_aload_n hx hb dX5_rank_8 rfl (lv_at hl 0 rfl) ?_
        refine va_get (D := (dC, dI)) (ci := 0) (v := .ref (ad 0)) (C := RX5) (T := TX5) (N := 28) hx hb hts in_X5 hown hK hP 0 tw_g rfl 0 (by decide) (hts _ q1986) (fun _ h9 => h9) rfl dX5_rank_9 ?_
        refine lv_iconst (v := 5) hx hb dX5_rank_12 (by decide) ?_
        obtain ⟨g1, hF⟩ := gd_s hF
        refine va_iald hx hb hK hP 1 0 tw_e0 rfl (inB_in g1) dX5_rank_13 ?_
        refine lv_icmp_ge (tgt := 68) hx hb dX5_rank_14 (by decide) (fun c2 => ?_) (fun c2 => ?_)
        · replace hF := it_t c2 hF
          refine lv_aload_n hx hb dX5_rank_68 rfl (lv_at hl 0 rfl) ?_
          refine lv_aload_n hx hb dX5_rank_69 rfl (lv_at hl 0 rfl) ?_
          refine va_get (D := (dC, dI)) (ci := 0) (v := .ref (ad 0)) (C := RX5) (T := TX5) (N := 28) hx hb hts in_X5 hown hK hP 0 tw_g rfl 0 (by decide) (hts _ q1986) (fun _ h9 => h9) rfl dX5_rank_70 ?_
          refine lv_iconst (v := 5) hx hb dX5_rank_73 (by decide) ?_
          obtain ⟨g3, hF⟩ := gd_s hF
          refine va_iald hx hb hK hP 1 0 tw_e0 rfl (inB_in g3) dX5_rank_74 ?_
          refine lv_aload_n hx hb dX5_rank_75 rfl (lv_at hl 0 rfl) ?_
          refine va_get (D := (dC, dI)) (ci := 0) (v := .ref (ad 0)) (C := RX5) (T := TX5) (N := 28) hx hb hts in_X5 hown hK hP 0 tw_g rfl 0 (by decide) (hts _ q1986) (fun _ h9 => h9) rfl dX5_rank_76 ?_
          refine lv_iconst (v := 1) hx hb dX5_rank_79 (by decide) ?_
          obtain ⟨g4, hF⟩ := gd_s hF
          refine va_iald hx hb hK hP 1 0 tw_e0 rfl (inB_in g4) dX5_rank_80 ?_
          obtain ⟨r5, u5, e5, hF⟩ := bnd_s hF
          refine tw_calli (va_runV (As := [.int ((σ).2 0 (5 : Int32).toNatClampNeg), .int ((σ).2 0 (1 : Int32).toNatClampNeg)]) (rest := []) ⟨hx, hb, hml, hown, hts⟩ (mt_ranks l dC dI cI cZ m0 ad H.size σ n  ((σ).2 0 (5 : Int32).toNatClampNeg) ((σ).2 0 (1 : Int32).toNatClampNeg) _ e5) (cwV 2 hts (lw_V q2384 q2386 qs90 q125 q2387) rfl rfl rfl (by decide +kernel) ⟨Nat.le_of_ble_eq_true rfl, Nat.le_of_ble_eq_true rfl⟩) (tw_preV hK hP hD _) rfl rfl hl.1 rfl (lv_room (Nat.le_of_ble_eq_true rfl)) dX5_rank_81 ⟨Nat.le_of_ble_eq_true rfl, Nat.le_of_ble_eq_true rfl⟩) hS hD hAA (fun rr uu H locs hw hP hD hS => ?_)
          obtain rfl : r5 = rr := (congrArg Prod.fst hw).symm
          obtain rfl : u5 = uu := (congrArg Prod.snd hw).symm
          exact W.iret (v := r5) hx hb hr (fun t ht hW => ⟨⟨r5, u5, rfl, Option.some.inj hF, by rw [ht]; exact hP, va_K.moved hW.alike hK⟩, hS.F ht⟩) hS.2.2 dX5_rank_84
        · replace hF := it_f c2 hF
          refine lv_iconst (v := 0) hx hb dX5_rank_17 (by decide) ?_
          refine lv_istore_n (lv' := [(2, .int 0), (0, .ref m0), (1, .int x1)]) hx hb dX5_rank_18 rfl hl (by decide) rfl (fun ls hl => ?_)
          exact lp2 σ x1 0 hF _ _ hP hD hS ls (lv_sub hl [1, 2, 0] rfl)
      · intro σ x1 x2 hF H locs hP hD hS ls hl
        replace hF : F_rank_2 (F_rank_r n) n σ x1 x2 = some out := hF
        unfold F_rank_2 at hF
        refine lv_iload_n hx hb dX5_rank_19 rfl (lv_at hl 2 rfl) ?_
        refine lv_bipush (v := 9) hx hb dX5_rank_20 (by decide) ?_
        refine lv_icmp_ge (tgt := 62) hx hb dX5_rank_22 (by decide) (fun c6 => ?_) (fun c6 => ?_)
        · replace hF := it_t c6 hF
          refine lv_iinc (v := (x1 + 1)) (lv' := [(1, .int (x1 + 1)), (0, .ref m0), (2, .int x2)]) hx hb dX5_rank_62 hl (k := 1) rfl rfl (by decide) rfl (fun ls hl => ?_)
          refine lv_goto (tgt := 7) hx hb dX5_rank_65 (by decide) ?_
          exact lp1 σ (x1 + 1) x2 hF _ _ hP hD hS ls (lv_sub hl [1, 0] rfl)
        · replace hF := it_f c6 hF
          refine lv_aload_n hx hb dX5_rank_25 rfl (lv_at hl 0 rfl) ?_
          refine va_get (D := (dC, dI)) (ci := 0) (v := .ref (ad 24)) (C := RX5) (T := TX5) (N := 28) hx hb hts in_X5 hown hK hP 0 tw_g rfl 24 (by decide) (hts _ q2010) (fun _ h9 => h9) rfl dX5_rank_26 ?_
          refine lv_bipush (v := 9) hx hb dX5_rank_29 (by decide) ?_
          refine lv_iload_n hx hb dX5_rank_31 rfl (lv_at hl 1 rfl) ?_
          refine lv_imul hx hb dX5_rank_32 ?_
          refine lv_iload_n hx hb dX5_rank_33 rfl (lv_at hl 2 rfl) ?_
          refine lv_iadd hx hb dX5_rank_34 ?_
          refine lv_iload_n hx hb dX5_rank_35 rfl (lv_at hl 2 rfl) ?_
          refine lv_aload_n hx hb dX5_rank_36 rfl (lv_at hl 0 rfl) ?_
          refine va_get (D := (dC, dI)) (ci := 0) (v := .ref (ad 0)) (C := RX5) (T := TX5) (N := 28) hx hb hts in_X5 hown hK hP 0 tw_g rfl 0 (by decide) (hts _ q1986) (fun _ h9 => h9) rfl dX5_rank_37 ?_
          refine lv_iconst (v := 1) hx hb dX5_rank_40 (by decide) ?_
          obtain ⟨g7, hF⟩ := gd_s hF
          refine va_iald hx hb hK hP 1 0 tw_e0 rfl (inB_in g7) dX5_rank_41 ?_
          refine lv_icmp_ge (tgt := 54) hx hb dX5_rank_42 (by decide) (fun c8 => ?_) (fun c8 => ?_)
          · replace hF := it_t c8 hF
            refine lv_iconst (v := 0) hx hb dX5_rank_54 (by decide) ?_
            obtain ⟨g9, hF⟩ := gd_s hF
            refine va_iast hx hb hK hP hD hS 13 0 tw_e24 rfl (x := 0) (inB_in g9) dX5_rank_55 (fun H locs hP hD hS => ?_)
            rw [tw_s24] at hP hD
            refine lv_iinc (v := (x2 + 1)) (lv' := [(2, .int (x2 + 1)), (0, .ref m0), (1, .int x1)]) hx hb dX5_rank_56 hl (k := 2) rfl rfl (by decide) rfl (fun ls hl => ?_)
            refine lv_goto (tgt := 19) hx hb dX5_rank_59 (by decide) ?_
            exact lp2 (tw_sa σ 24 (((9 * x1) + x2)).toNatClampNeg 0) x1 (x2 + 1) hF _ _ hP hD hS ls (lv_sub hl [1, 2, 0] rfl)
          · replace hF := it_f c8 hF
            refine lv_aload_n hx hb dX5_rank_45 rfl (lv_at hl 0 rfl) ?_
            refine lv_iload_n hx hb dX5_rank_46 rfl (lv_at hl 1 rfl) ?_
            refine lv_iload_n hx hb dX5_rank_47 rfl (lv_at hl 2 rfl) ?_
            obtain ⟨r10, u10, e10, hF⟩ := bnd_s hF
            refine tw_calli (va_runV (As := [.int x1, .int x2]) (rest := [.int ((9 * x1) + x2), .ref (ad 24)]) ⟨hx, hb, hml, hown, hts⟩ (mt_wayOf l dC dI cI cZ m0 ad H.size σ  x1 x2 _ e10) (cwV 2 hts (lw_V q2245 q2247 qs68 q125 q2248) rfl rfl rfl (by decide +kernel) ⟨Nat.le_of_ble_eq_true rfl, Nat.le_of_ble_eq_true rfl⟩) (tw_preV hK hP hD _) rfl rfl hl.1 rfl (lv_room (Nat.le_of_ble_eq_true rfl)) dX5_rank_48 ⟨Nat.le_of_ble_eq_true rfl, Nat.le_of_ble_eq_true rfl⟩) hS hD hAA (fun rr uu H locs hw hP hD hS => ?_)
            obtain rfl : r10 = rr := (congrArg Prod.fst hw).symm
            obtain rfl : u10 = uu := (congrArg Prod.snd hw).symm
            refine lv_goto (tgt := 55) hx hb dX5_rank_51 (by decide) ?_
            obtain ⟨g11, hF⟩ := gd_s hF
            refine va_iast hx hb hK hP hD hS 13 0 tw_e24 rfl (x := r10) (inB_in g11) dX5_rank_55 (fun H locs hP hD hS => ?_)
            rw [tw_s24] at hP hD
            refine lv_iinc (v := (x2 + 1)) (lv' := [(2, .int (x2 + 1)), (0, .ref m0), (1, .int x1)]) hx hb dX5_rank_56 hl (k := 2) rfl rfl (by decide) rfl (fun ls hl => ?_)
            refine lv_goto (tgt := 19) hx hb dX5_rank_59 (by decide) ?_
            exact lp2 (tw_sa u10 24 (((9 * x1) + x2)).toNatClampNeg r10) x1 (x2 + 1) hF _ _ hP hD hS ls (lv_sub hl [1, 2, 0] rfl)
  obtain ⟨lp1, lp2⟩ := loop n
  unfold F_rank F_rank_0 at hF
  refine lv_aload_n hx hb dX5_rank_0 rfl (lv_at hl 0 rfl) ?_
  refine lv_iconst (v := 0) hx hb dX5_rank_1 (by decide) ?_
  refine va_put (D := (dC, dI)) (ci := 0) (v := .int 0) (ty := .int) (C := RX5) (T := TX5) (N := 28) hx hb hts in_X5 tyX5 tyX5_ok nmX5 hown hK hP hD hS 0 tw_g rfl 6 (by decide) (hts _ q1992) (fun _ h9 => h9) rfl (tyX5_ok 6 (by decide)) rfl rfl (Nat.le_of_ble_eq_true rfl) dX5_rank_2 (fun H locs hP hD hS => ?_)
  rw [tw_p6] at hP hD
  refine lv_iconst (v := 0) hx hb dX5_rank_5 (by decide) ?_
  refine lv_istore_n (lv' := [(1, .int 0), (0, .ref m0)]) hx hb dX5_rank_6 rfl hl (by decide) rfl (fun ls hl => ?_)
  exact lp1 (tw_sf σ 6 0) 0 0 hF _ _ hP hD hS ls (lv_sub hl [1, 0] rfl)

def F_projected (n : Nat) (σ : Tw) (p1 : Int32) (p2 : Int32) : Option (Int32 × Tw) := bnd (F_isDirection σ p1) (fun r1 u1 => if r1 = 0 then if (((tw_sf u1 6 1)).1 6) ≤ 0 then bnd (F_projectedOf n (tw_sf u1 6 1) p1 p2) (fun r4 u4 => some (r4, u4)) else some (0, (tw_sf u1 6 1)) else bnd (F_isDirection u1 p2) (fun r5 u5 => if r5 = 0 then if (((tw_sf u5 6 1)).1 6) ≤ 0 then bnd (F_projectedOf n (tw_sf u5 6 1) p1 p2) (fun r8 u8 => some (r8, u8)) else some (0, (tw_sf u5 6 1)) else if (((tw_sf u5 6 0)).1 6) ≤ 0 then bnd (F_projectedOf n (tw_sf u5 6 0) p1 p2) (fun r10 u10 => some (r10, u10)) else some (0, (tw_sf u5 6 0))))
set_option maxHeartbeats 4000000 in
set_option maxRecDepth 100000 in
theorem mt_projected (l : Launch) (dC : Nat → ClassId) (dI : Nat → Nat → Nat) (cI cZ : ClassId) (m0 : Nat) (ad : Nat → Nat) (sz : Nat) (σ : Tw) (n : Nat)  (p1 : Int32) (p2 : Int32) (out : Int32 × Tw) (hF : F_projected n σ p1 p2 = some out) : Met l yX5_projected (ws_ yX5_projected cX5_projected 3 (some .int)) ({ frames := 6, cells := 0, slots := 0, locals := 134 }) (va_Pc [.ref m0, .int p1, .int p2] (tw_Pre dC dI cI cZ m0 ad sz σ)) (va_Qi (fun r u => (r, u) = out) (tw_B dC dI cI cZ m0 ad) (tw_A m0 ad sz)) 0 0 (tw_A m0 ad sz) := by
  refine Met.ofW (cc := cX5_projected) (maxL := 3) (ret := (some .int)) (by decide +kernel) rfl ?_
  intro p e s m args below meth c s₁ B hml hv
  obtain ⟨rfl, hsz, hP, hK, hD0⟩ := hv
  have hx := B.exec
  have hb := B.bytes
  have hr := B.returns
  have hts := atoms_spec (ws := (ws_ yX5_projected cX5_projected 3 (some .int))) B.pre
  have hts : ∀ w ∈ lw_all, w.before _ s = true := fun w h => hts w (List.mem_cons_of_mem _ h)
  have hown : s.vm.findClass RX5 = some m.cls := findClass_of_methodNamed B.named
  have hlocks := B.notSynchronized
  subst hsz
  have hD := tw_Ds (z := s.heap.size) hD0
  have hAA := fun z (h : s.heap.size ≤ z) => tw_Am (m0 := m0) (ad := ad) h
  generalize hAe : tw_A m0 ad s.heap.size = A at hD hAA ⊢
  have hS : va_S A s.heap s.heap [] := va_S.rf
  have hP : va_P (dC, dI) vwCl (tw_ws m0 ad cI cZ σ) s.heap := hP
  have hl := lv_entry ([.ref m0, .int p1, .int p2]) (n := 3) (Nat.le_of_ble_eq_true rfl)
  rw [lg_entry_eq]
  generalize (lg_sl ([.ref m0, .int p1, .int p2]) ++ List.replicate (3 - (lg_sl ([.ref m0, .int p1, .int p2])).length) Slot.unset).toArray = ls at hl ⊢
  have hl : lv_has ls 3 [(0, .ref m0), (1, .int p1), (2, .int p2)] := hl
  unfold F_projected at hF
  refine lv_aload_n hx hb dX5_projected_0 rfl (lv_at hl 0 rfl) ?_
  refine lv_aload_n hx hb dX5_projected_1 rfl (lv_at hl 0 rfl) ?_
  refine lv_iload_n hx hb dX5_projected_2 rfl (lv_at hl 1 rfl) ?_
  obtain ⟨r1, u1, e1, hF⟩ := bnd_s hF
  refine tw_calli (va_runV (As := [.int p1]) (rest := [.ref m0]) ⟨hx, hb, hml, hown, hts⟩ (mt_isDirection l dC dI cI cZ m0 ad s.heap.size σ  p1 _ e1) (cwV 1 hts (lw_V q2364 q2366 qs89 q125 q2367) rfl rfl rfl (by decide +kernel) ⟨Nat.le_of_ble_eq_true rfl, Nat.le_of_ble_eq_true rfl⟩) (tw_preV hK hP hD _) rfl rfl hl.1 rfl (lv_room (Nat.le_of_ble_eq_true rfl)) dX5_projected_3 ⟨Nat.le_of_ble_eq_true rfl, Nat.le_of_ble_eq_true rfl⟩) hS hD hAA (fun rr uu H locs hw hP hD hS => ?_)
  obtain rfl : r1 = rr := (congrArg Prod.fst hw).symm
  obtain rfl : u1 = uu := (congrArg Prod.snd hw).symm
  refine lv_if_eq (tgt := 21) hx hb dX5_projected_6 (by decide) (fun c2 => ?_) (fun c2 => ?_)
  · replace hF := it_t c2 hF
    refine lv_iconst (v := 1) hx hb dX5_projected_21 (by decide) ?_
    refine va_put (D := (dC, dI)) (ci := 0) (v := .int 1) (ty := .int) (C := RX5) (T := TX5) (N := 28) hx hb hts in_X5 tyX5 tyX5_ok nmX5 hown hK hP hD hS 0 tw_g rfl 6 (by decide) (hts _ q1992) (fun _ h9 => h9) rfl (tyX5_ok 6 (by decide)) rfl rfl (Nat.le_of_ble_eq_true rfl) dX5_projected_22 (fun H locs hP hD hS => ?_)
    rw [tw_p6] at hP hD
    refine lv_aload_n hx hb dX5_projected_25 rfl (lv_at hl 0 rfl) ?_
    refine va_get (D := (dC, dI)) (ci := 0) (v := .int (((tw_sf u1 6 1)).1 6)) (C := RX5) (T := TX5) (N := 28) hx hb hts in_X5 hown hK hP 0 tw_g rfl 6 (by decide) (hts _ q1992) (fun _ h9 => h9) rfl dX5_projected_26 ?_
    refine lv_if_le (tgt := 36) hx hb dX5_projected_29 (by decide) (fun c3 => ?_) (fun c3 => ?_)
    · replace hF := it_t c3 hF
      refine lv_aload_n hx hb dX5_projected_36 rfl (lv_at hl 0 rfl) ?_
      refine lv_iload_n hx hb dX5_projected_37 rfl (lv_at hl 1 rfl) ?_
      refine lv_iload_n hx hb dX5_projected_38 rfl (lv_at hl 2 rfl) ?_
      obtain ⟨r4, u4, e4, hF⟩ := bnd_s hF
      refine tw_calli (va_runV (As := [.int p1, .int p2]) (rest := []) ⟨hx, hb, hml, hown, hts⟩ (mt_projectedOf l dC dI cI cZ m0 ad H.size (tw_sf u1 6 1) n  p1 p2 _ e4) (cwV 2 hts (lw_V q2336 q2338 qs87 q125 q2339) rfl rfl rfl (by decide +kernel) ⟨Nat.le_of_ble_eq_true rfl, Nat.le_of_ble_eq_true rfl⟩) (tw_preV hK hP hD _) rfl rfl hl.1 rfl (lv_room (Nat.le_of_ble_eq_true rfl)) dX5_projected_39 ⟨Nat.le_of_ble_eq_true rfl, Nat.le_of_ble_eq_true rfl⟩) hS hD hAA (fun rr uu H locs hw hP hD hS => ?_)
      obtain rfl : r4 = rr := (congrArg Prod.fst hw).symm
      obtain rfl : u4 = uu := (congrArg Prod.snd hw).symm
      exact W.iret (v := r4) hx hb hr (fun t ht hW => ⟨⟨r4, u4, rfl, Option.some.inj hF, by rw [ht]; exact hP, va_K.moved hW.alike hK⟩, hS.F ht⟩) hS.2.2 dX5_projected_42
    · replace hF := it_f c3 hF
      refine lv_iconst (v := 0) hx hb dX5_projected_32 (by decide) ?_
      refine lv_goto (tgt := 42) hx hb dX5_projected_33 (by decide) ?_
      exact W.iret (v := 0) hx hb hr (fun t ht hW => ⟨⟨0, (tw_sf u1 6 1), rfl, Option.some.inj hF, by rw [ht]; exact hP, va_K.moved hW.alike hK⟩, hS.F ht⟩) hS.2.2 dX5_projected_42
  · replace hF := it_f c2 hF
    refine lv_aload_n hx hb dX5_projected_9 rfl (lv_at hl 0 rfl) ?_
    refine lv_iload_n hx hb dX5_projected_10 rfl (lv_at hl 2 rfl) ?_
    obtain ⟨r5, u5, e5, hF⟩ := bnd_s hF
    refine tw_calli (va_runV (As := [.int p2]) (rest := [.ref m0]) ⟨hx, hb, hml, hown, hts⟩ (mt_isDirection l dC dI cI cZ m0 ad H.size u1  p2 _ e5) (cwV 1 hts (lw_V q2364 q2366 qs89 q125 q2367) rfl rfl rfl (by decide +kernel) ⟨Nat.le_of_ble_eq_true rfl, Nat.le_of_ble_eq_true rfl⟩) (tw_preV hK hP hD _) rfl rfl hl.1 rfl (lv_room (Nat.le_of_ble_eq_true rfl)) dX5_projected_11 ⟨Nat.le_of_ble_eq_true rfl, Nat.le_of_ble_eq_true rfl⟩) hS hD hAA (fun rr uu H locs hw hP hD hS => ?_)
    obtain rfl : r5 = rr := (congrArg Prod.fst hw).symm
    obtain rfl : u5 = uu := (congrArg Prod.snd hw).symm
    refine lv_if_eq (tgt := 21) hx hb dX5_projected_14 (by decide) (fun c6 => ?_) (fun c6 => ?_)
    · replace hF := it_t c6 hF
      refine lv_iconst (v := 1) hx hb dX5_projected_21 (by decide) ?_
      refine va_put (D := (dC, dI)) (ci := 0) (v := .int 1) (ty := .int) (C := RX5) (T := TX5) (N := 28) hx hb hts in_X5 tyX5 tyX5_ok nmX5 hown hK hP hD hS 0 tw_g rfl 6 (by decide) (hts _ q1992) (fun _ h9 => h9) rfl (tyX5_ok 6 (by decide)) rfl rfl (Nat.le_of_ble_eq_true rfl) dX5_projected_22 (fun H locs hP hD hS => ?_)
      rw [tw_p6] at hP hD
      refine lv_aload_n hx hb dX5_projected_25 rfl (lv_at hl 0 rfl) ?_
      refine va_get (D := (dC, dI)) (ci := 0) (v := .int (((tw_sf u5 6 1)).1 6)) (C := RX5) (T := TX5) (N := 28) hx hb hts in_X5 hown hK hP 0 tw_g rfl 6 (by decide) (hts _ q1992) (fun _ h9 => h9) rfl dX5_projected_26 ?_
      refine lv_if_le (tgt := 36) hx hb dX5_projected_29 (by decide) (fun c7 => ?_) (fun c7 => ?_)
      · replace hF := it_t c7 hF
        refine lv_aload_n hx hb dX5_projected_36 rfl (lv_at hl 0 rfl) ?_
        refine lv_iload_n hx hb dX5_projected_37 rfl (lv_at hl 1 rfl) ?_
        refine lv_iload_n hx hb dX5_projected_38 rfl (lv_at hl 2 rfl) ?_
        obtain ⟨r8, u8, e8, hF⟩ := bnd_s hF
        refine tw_calli (va_runV (As := [.int p1, .int p2]) (rest := []) ⟨hx, hb, hml, hown, hts⟩ (mt_projectedOf l dC dI cI cZ m0 ad H.size (tw_sf u5 6 1) n  p1 p2 _ e8) (cwV 2 hts (lw_V q2336 q2338 qs87 q125 q2339) rfl rfl rfl (by decide +kernel) ⟨Nat.le_of_ble_eq_true rfl, Nat.le_of_ble_eq_true rfl⟩) (tw_preV hK hP hD _) rfl rfl hl.1 rfl (lv_room (Nat.le_of_ble_eq_true rfl)) dX5_projected_39 ⟨Nat.le_of_ble_eq_true rfl, Nat.le_of_ble_eq_true rfl⟩) hS hD hAA (fun rr uu H locs hw hP hD hS => ?_)
        obtain rfl : r8 = rr := (congrArg Prod.fst hw).symm
        obtain rfl : u8 = uu := (congrArg Prod.snd hw).symm
        exact W.iret (v := r8) hx hb hr (fun t ht hW => ⟨⟨r8, u8, rfl, Option.some.inj hF, by rw [ht]; exact hP, va_K.moved hW.alike hK⟩, hS.F ht⟩) hS.2.2 dX5_projected_42
      · replace hF := it_f c7 hF
        refine lv_iconst (v := 0) hx hb dX5_projected_32 (by decide) ?_
        refine lv_goto (tgt := 42) hx hb dX5_projected_33 (by decide) ?_
        exact W.iret (v := 0) hx hb hr (fun t ht hW => ⟨⟨0, (tw_sf u5 6 1), rfl, Option.some.inj hF, by rw [ht]; exact hP, va_K.moved hW.alike hK⟩, hS.F ht⟩) hS.2.2 dX5_projected_42
    · replace hF := it_f c6 hF
      refine lv_iconst (v := 0) hx hb dX5_projected_17 (by decide) ?_
      refine lv_goto (tgt := 22) hx hb dX5_projected_18 (by decide) ?_
      refine va_put (D := (dC, dI)) (ci := 0) (v := .int 0) (ty := .int) (C := RX5) (T := TX5) (N := 28) hx hb hts in_X5 tyX5 tyX5_ok nmX5 hown hK hP hD hS 0 tw_g rfl 6 (by decide) (hts _ q1992) (fun _ h9 => h9) rfl (tyX5_ok 6 (by decide)) rfl rfl (Nat.le_of_ble_eq_true rfl) dX5_projected_22 (fun H locs hP hD hS => ?_)
      rw [tw_p6] at hP hD
      refine lv_aload_n hx hb dX5_projected_25 rfl (lv_at hl 0 rfl) ?_
      refine va_get (D := (dC, dI)) (ci := 0) (v := .int (((tw_sf u5 6 0)).1 6)) (C := RX5) (T := TX5) (N := 28) hx hb hts in_X5 hown hK hP 0 tw_g rfl 6 (by decide) (hts _ q1992) (fun _ h9 => h9) rfl dX5_projected_26 ?_
      refine lv_if_le (tgt := 36) hx hb dX5_projected_29 (by decide) (fun c9 => ?_) (fun c9 => ?_)
      · replace hF := it_t c9 hF
        refine lv_aload_n hx hb dX5_projected_36 rfl (lv_at hl 0 rfl) ?_
        refine lv_iload_n hx hb dX5_projected_37 rfl (lv_at hl 1 rfl) ?_
        refine lv_iload_n hx hb dX5_projected_38 rfl (lv_at hl 2 rfl) ?_
        obtain ⟨r10, u10, e10, hF⟩ := bnd_s hF
        refine tw_calli (va_runV (As := [.int p1, .int p2]) (rest := []) ⟨hx, hb, hml, hown, hts⟩ (mt_projectedOf l dC dI cI cZ m0 ad H.size (tw_sf u5 6 0) n  p1 p2 _ e10) (cwV 2 hts (lw_V q2336 q2338 qs87 q125 q2339) rfl rfl rfl (by decide +kernel) ⟨Nat.le_of_ble_eq_true rfl, Nat.le_of_ble_eq_true rfl⟩) (tw_preV hK hP hD _) rfl rfl hl.1 rfl (lv_room (Nat.le_of_ble_eq_true rfl)) dX5_projected_39 ⟨Nat.le_of_ble_eq_true rfl, Nat.le_of_ble_eq_true rfl⟩) hS hD hAA (fun rr uu H locs hw hP hD hS => ?_)
        obtain rfl : r10 = rr := (congrArg Prod.fst hw).symm
        obtain rfl : u10 = uu := (congrArg Prod.snd hw).symm
        exact W.iret (v := r10) hx hb hr (fun t ht hW => ⟨⟨r10, u10, rfl, Option.some.inj hF, by rw [ht]; exact hP, va_K.moved hW.alike hK⟩, hS.F ht⟩) hS.2.2 dX5_projected_42
      · replace hF := it_f c9 hF
        refine lv_iconst (v := 0) hx hb dX5_projected_32 (by decide) ?_
        refine lv_goto (tgt := 42) hx hb dX5_projected_33 (by decide) ?_
        exact W.iret (v := 0) hx hb hr (fun t ht hW => ⟨⟨0, (tw_sf u5 6 0), rfl, Option.some.inj hF, by rw [ht]; exact hP, va_K.moved hW.alike hK⟩, hS.F ht⟩) hS.2.2 dX5_projected_42

def F_width_1 (R : Nat → Tw → Int32 → Int32 → Int32 → Int32 → Option (Int32 × Tw)) (n : Nat) (σ : Tw) (x1 : Int32) (x2 : Int32) (x3 : Int32) (x4 : Int32) : Option (Int32 × Tw) := gd (inB 5 162) (if ((σ).2 0 (5 : Int32).toNatClampNeg) ≤ x2 then some (x1, σ) else R 2 σ x1 x2 0 0)
def F_width_2 (R : Nat → Tw → Int32 → Int32 → Int32 → Int32 → Option (Int32 × Tw)) (n : Nat) (σ : Tw) (x1 : Int32) (x2 : Int32) (x3 : Int32) (x4 : Int32) : Option (Int32 × Tw) := gd (inB 5 162) (if ((σ).2 0 (5 : Int32).toNatClampNeg) ≤ x3 then R 1 σ x1 (x2 + 1) x3 0 else if x3 ≤ x2 then if (x2 - x3) ≤ x1 then R 2 σ x1 x2 (x3 + 1) (x2 - x3) else bnd (F_projectedOf n σ x2 x3) (fun r7 u7 => if r7 = 0 then R 2 u7 x1 x2 (x3 + 1) (x2 - x3) else R 2 u7 (x2 - x3) x2 (x3 + 1) (x2 - x3)) else if (x3 - x2) ≤ x1 then R 2 σ x1 x2 (x3 + 1) (x3 - x2) else bnd (F_projectedOf n σ x2 x3) (fun r10 u10 => if r10 = 0 then R 2 u10 x1 x2 (x3 + 1) (x3 - x2) else R 2 u10 (x3 - x2) x2 (x3 + 1) (x3 - x2)))
def F_width_r : Nat → Nat → Tw → Int32 → Int32 → Int32 → Int32 → Option (Int32 × Tw)
  | 0 => fun _ _ _ _ _ _ => none
  | n + 1 => fun k => match k with | 1 => F_width_1 (F_width_r n) n | _ => F_width_2 (F_width_r n) n
def F_width_0 (R : Nat → Tw → Int32 → Int32 → Int32 → Int32 → Option (Int32 × Tw)) (n : Nat) (σ : Tw) : Option (Int32 × Tw) := R 1 (tw_sf σ 6 0) (-1) 0 0 0
def F_width (n : Nat) (σ : Tw) : Option (Int32 × Tw) := F_width_0 (F_width_r n) n σ 
set_option maxHeartbeats 4000000 in
set_option maxRecDepth 100000 in
theorem mt_width (l : Launch) (dC : Nat → ClassId) (dI : Nat → Nat → Nat) (cI cZ : ClassId) (m0 : Nat) (ad : Nat → Nat) (sz : Nat) (σ : Tw) (n : Nat)  (out : Int32 × Tw) (hF : F_width n σ  = some out) : Met l yX5_width (ws_ yX5_width cX5_width 5 (some .int)) ({ frames := 6, cells := 0, slots := 0, locals := 134 }) (va_Pc [.ref m0] (tw_Pre dC dI cI cZ m0 ad sz σ)) (va_Qi (fun r u => (r, u) = out) (tw_B dC dI cI cZ m0 ad) (tw_A m0 ad sz)) 0 0 (tw_A m0 ad sz) := by
  refine Met.ofW (cc := cX5_width) (maxL := 5) (ret := (some .int)) (by decide +kernel) rfl ?_
  intro p e s m args below meth c s₁ B hml hv
  obtain ⟨rfl, hsz, hP, hK, hD0⟩ := hv
  have hx := B.exec
  have hb := B.bytes
  have hr := B.returns
  have hts := atoms_spec (ws := (ws_ yX5_width cX5_width 5 (some .int))) B.pre
  have hts : ∀ w ∈ lw_all, w.before _ s = true := fun w h => hts w (List.mem_cons_of_mem _ h)
  have hown : s.vm.findClass RX5 = some m.cls := findClass_of_methodNamed B.named
  have hlocks := B.notSynchronized
  subst hsz
  have hD := tw_Ds (z := s.heap.size) hD0
  have hAA := fun z (h : s.heap.size ≤ z) => tw_Am (m0 := m0) (ad := ad) h
  generalize hAe : tw_A m0 ad s.heap.size = A at hD hAA ⊢
  have hS : va_S A s.heap s.heap [] := va_S.rf
  have hP : va_P (dC, dI) vwCl (tw_ws m0 ad cI cZ σ) s.heap := hP
  have hl := lv_entry ([.ref m0]) (n := 5) (Nat.le_of_ble_eq_true rfl)
  rw [lg_entry_eq]
  generalize (lg_sl ([.ref m0]) ++ List.replicate (5 - (lg_sl ([.ref m0])).length) Slot.unset).toArray = ls at hl ⊢
  have hl : lv_has ls 5 [(0, .ref m0)] := hl
  have loop : ∀ n : Nat, (∀ (σ : Tw) (x1 x2 x3 x4 : Int32), F_width_r n 1 σ x1 x2 x3 x4 = some out → ∀ (H : Heap) (locs : List Loc), va_P (dC, dI) vwCl (tw_ws m0 ad cI cZ σ) H → va_D A (tw_ws m0 ad cI cZ σ) → va_S A s.heap H locs → ∀ ls : Array Slot, lv_has ls 5 [(0, .ref m0), (1, .int x1), (2, .int x2)] → W p l e (headSpec (ws_ yX5_width cX5_width 5 (some .int)) ({ frames := 6, cells := 0, slots := 0, locals := 134 })).room s m ([.ref m0] : List Value).toArray below meth c H locs 0 0 (MQ below (va_Qi (fun r u => (r, u) = out) (tw_B dC dI cI cZ m0 ad) A) ([.ref m0] : List Value).toArray s 0 0 A) (F0 m 9 ls [])) ∧ (∀ (σ : Tw) (x1 x2 x3 x4 : Int32), F_width_r n 2 σ x1 x2 x3 x4 = some out → ∀ (H : Heap) (locs : List Loc), va_P (dC, dI) vwCl (tw_ws m0 ad cI cZ σ) H → va_D A (tw_ws m0 ad cI cZ σ) → va_S A s.heap H locs → ∀ ls : Array Slot, lv_has ls 5 [(0, .ref m0), (1, .int x1), (2, .int x2), (3, .int x3)] → W p l e (headSpec (ws_ yX5_width cX5_width 5 (some .int)) ({ frames := 6, cells := 0, slots := 0, locals := 134 })).room s m ([.ref m0] : List Value).toArray below meth c H locs 0 0 (MQ below (va_Qi (fun r u => (r, u) = out) (tw_B dC dI cI cZ m0 ad) A) ([.ref m0] : List Value).toArray s 0 0 A) (F0 m 21 ls [])) := by
    intro n
    induction n with
    | zero => exact ⟨(fun _ _ _ _ _ h => nomatch h), (fun _ _ _ _ _ h => nomatch h)⟩
    | succ n ih =>
      obtain ⟨lp1, lp2⟩ := ih
      refine ⟨?_, ?_⟩
      · intro σ x1 x2 x3 x4 hF H locs hP hD hS ls hl
        replace hF : F_width_1 (F_width_r n) n σ x1 x2 x3 x4 = some out := hF
        unfold F_width_1 at hF
        refine lv_iload_n hx hb dX5_width_9 rfl (lv_at hl 2 rfl) ?_
        refine lv_aload_n hx hb dX5_width_10 rfl (lv_at hl 0 rfl) ?_
        refine va_get (D := (dC, dI)) (ci := 0) (v := .ref (ad 0)) (C := RX5) (T := TX5) (N := 28) hx hb hts in_X5 hown hK hP 0 tw_g rfl 0 (by decide) (hts _ q1986) (fun _ h9 => h9) rfl dX5_width_11 ?_
        refine lv_iconst (v := 5) hx hb dX5_width_14 (by decide) ?_
        obtain ⟨g1, hF⟩ := gd_s hF
        refine va_iald hx hb hK hP 1 0 tw_e0 rfl (inB_in g1) dX5_width_15 ?_
        refine lv_icmp_ge (tgt := 81) hx hb dX5_width_16 (by decide) (fun c2 => ?_) (fun c2 => ?_)
        · replace hF := it_t c2 hF
          refine lv_iload_n hx hb dX5_width_81 rfl (lv_at hl 1 rfl) ?_
          exact W.iret (v := x1) hx hb hr (fun t ht hW => ⟨⟨x1, σ, rfl, Option.some.inj hF, by rw [ht]; exact hP, va_K.moved hW.alike hK⟩, hS.F ht⟩) hS.2.2 dX5_width_82
        · replace hF := it_f c2 hF
          refine lv_iconst (v := 0) hx hb dX5_width_19 (by decide) ?_
          refine lv_istore_n (lv' := [(3, .int 0), (0, .ref m0), (1, .int x1), (2, .int x2)]) hx hb dX5_width_20 rfl hl (by decide) rfl (fun ls hl => ?_)
          exact lp2 σ x1 x2 0 0 hF _ _ hP hD hS ls (lv_sub hl [1, 2, 3, 0] rfl)
      · intro σ x1 x2 x3 x4 hF H locs hP hD hS ls hl
        replace hF : F_width_2 (F_width_r n) n σ x1 x2 x3 x4 = some out := hF
        unfold F_width_2 at hF
        refine lv_iload_n hx hb dX5_width_21 rfl (lv_at hl 3 rfl) ?_
        refine lv_aload_n hx hb dX5_width_22 rfl (lv_at hl 0 rfl) ?_
        refine va_get (D := (dC, dI)) (ci := 0) (v := .ref (ad 0)) (C := RX5) (T := TX5) (N := 28) hx hb hts in_X5 hown hK hP 0 tw_g rfl 0 (by decide) (hts _ q1986) (fun _ h9 => h9) rfl dX5_width_23 ?_
        refine lv_iconst (v := 5) hx hb dX5_width_26 (by decide) ?_
        obtain ⟨g3, hF⟩ := gd_s hF
        refine va_iald hx hb hK hP 1 0 tw_e0 rfl (inB_in g3) dX5_width_27 ?_
        refine lv_icmp_ge (tgt := 75) hx hb dX5_width_28 (by decide) (fun c4 => ?_) (fun c4 => ?_)
        · replace hF := it_t c4 hF
          refine lv_iinc (v := (x2 + 1)) (lv' := [(2, .int (x2 + 1)), (0, .ref m0), (1, .int x1), (3, .int x3)]) hx hb dX5_width_75 hl (k := 2) rfl rfl (by decide) rfl (fun ls hl => ?_)
          refine lv_goto (tgt := 9) hx hb dX5_width_78 (by decide) ?_
          exact lp1 σ x1 (x2 + 1) x3 0 hF _ _ hP hD hS ls (lv_sub hl [1, 2, 0] rfl)
        · replace hF := it_f c4 hF
          refine lv_iload_n hx hb dX5_width_31 rfl (lv_at hl 2 rfl) ?_
          refine lv_iload_n hx hb dX5_width_32 rfl (lv_at hl 3 rfl) ?_
          refine lv_icmp_ge (tgt := 42) hx hb dX5_width_33 (by decide) (fun c5 => ?_) (fun c5 => ?_)
          · replace hF := it_t c5 hF
            refine lv_iload_n hx hb dX5_width_42 rfl (lv_at hl 2 rfl) ?_
            refine lv_iload_n hx hb dX5_width_43 rfl (lv_at hl 3 rfl) ?_
            refine lv_isub hx hb dX5_width_44 ?_
            refine lv_istore (lv' := [(4, .int (x2 - x3)), (0, .ref m0), (1, .int x1), (2, .int x2), (3, .int x3)]) hx hb dX5_width_45 hl (by decide) rfl (fun ls hl => ?_)
            refine lv_iload hx hb dX5_width_47 (lv_at hl 0 rfl) ?_
            refine lv_iload_n hx hb dX5_width_49 rfl (lv_at hl 2 rfl) ?_
            refine lv_icmp_le (tgt := 67) hx hb dX5_width_50 (by decide) (fun c6 => ?_) (fun c6 => ?_)
            · replace hF := it_t c6 hF
              refine lv_iload_n hx hb dX5_width_67 rfl (lv_at hl 2 rfl) ?_
              refine lv_istore_n (lv' := [(1, .int x1), (4, .int (x2 - x3)), (0, .ref m0), (2, .int x2), (3, .int x3)]) hx hb dX5_width_68 rfl hl (by decide) rfl (fun ls hl => ?_)
              refine lv_iinc (v := (x3 + 1)) (lv' := [(3, .int (x3 + 1)), (1, .int x1), (4, .int (x2 - x3)), (0, .ref m0), (2, .int x2)]) hx hb dX5_width_69 hl (k := 4) rfl rfl (by decide) rfl (fun ls hl => ?_)
              refine lv_goto (tgt := 21) hx hb dX5_width_72 (by decide) ?_
              exact lp2 σ x1 x2 (x3 + 1) (x2 - x3) hF _ _ hP hD hS ls (lv_sub hl [3, 1, 4, 0] rfl)
            · replace hF := it_f c6 hF
              refine lv_aload_n hx hb dX5_width_53 rfl (lv_at hl 1 rfl) ?_
              refine lv_iload_n hx hb dX5_width_54 rfl (lv_at hl 3 rfl) ?_
              refine lv_iload_n hx hb dX5_width_55 rfl (lv_at hl 4 rfl) ?_
              obtain ⟨r7, u7, e7, hF⟩ := bnd_s hF
              refine tw_calli (va_runV (As := [.int x2, .int x3]) (rest := []) ⟨hx, hb, hml, hown, hts⟩ (mt_projectedOf l dC dI cI cZ m0 ad H.size σ n  x2 x3 _ e7) (cwV 2 hts (lw_V q2336 q2338 qs87 q125 q2339) rfl rfl rfl (by decide +kernel) ⟨Nat.le_of_ble_eq_true rfl, Nat.le_of_ble_eq_true rfl⟩) (tw_preV hK hP hD _) rfl rfl hl.1 rfl (lv_room (Nat.le_of_ble_eq_true rfl)) dX5_width_56 ⟨Nat.le_of_ble_eq_true rfl, Nat.le_of_ble_eq_true rfl⟩) hS hD hAA (fun rr uu H locs hw hP hD hS => ?_)
              obtain rfl : r7 = rr := (congrArg Prod.fst hw).symm
              obtain rfl : u7 = uu := (congrArg Prod.snd hw).symm
              refine lv_if_eq (tgt := 67) hx hb dX5_width_59 (by decide) (fun c8 => ?_) (fun c8 => ?_)
              · replace hF := it_t c8 hF
                refine lv_iload_n hx hb dX5_width_67 rfl (lv_at hl 2 rfl) ?_
                refine lv_istore_n (lv' := [(1, .int x1), (4, .int (x2 - x3)), (0, .ref m0), (2, .int x2), (3, .int x3)]) hx hb dX5_width_68 rfl hl (by decide) rfl (fun ls hl => ?_)
                refine lv_iinc (v := (x3 + 1)) (lv' := [(3, .int (x3 + 1)), (1, .int x1), (4, .int (x2 - x3)), (0, .ref m0), (2, .int x2)]) hx hb dX5_width_69 hl (k := 4) rfl rfl (by decide) rfl (fun ls hl => ?_)
                refine lv_goto (tgt := 21) hx hb dX5_width_72 (by decide) ?_
                exact lp2 u7 x1 x2 (x3 + 1) (x2 - x3) hF _ _ hP hD hS ls (lv_sub hl [3, 1, 4, 0] rfl)
              · replace hF := it_f c8 hF
                refine lv_iload hx hb dX5_width_62 (lv_at hl 0 rfl) ?_
                refine lv_goto (tgt := 68) hx hb dX5_width_64 (by decide) ?_
                refine lv_istore_n (lv' := [(1, .int (x2 - x3)), (4, .int (x2 - x3)), (0, .ref m0), (2, .int x2), (3, .int x3)]) hx hb dX5_width_68 rfl hl (by decide) rfl (fun ls hl => ?_)
                refine lv_iinc (v := (x3 + 1)) (lv' := [(3, .int (x3 + 1)), (1, .int (x2 - x3)), (4, .int (x2 - x3)), (0, .ref m0), (2, .int x2)]) hx hb dX5_width_69 hl (k := 4) rfl rfl (by decide) rfl (fun ls hl => ?_)
                refine lv_goto (tgt := 21) hx hb dX5_width_72 (by decide) ?_
                exact lp2 u7 (x2 - x3) x2 (x3 + 1) (x2 - x3) hF _ _ hP hD hS ls (lv_sub hl [3, 1, 4, 0] rfl)
          · replace hF := it_f c5 hF
            refine lv_iload_n hx hb dX5_width_36 rfl (lv_at hl 3 rfl) ?_
            refine lv_iload_n hx hb dX5_width_37 rfl (lv_at hl 2 rfl) ?_
            refine lv_isub hx hb dX5_width_38 ?_
            refine lv_goto (tgt := 45) hx hb dX5_width_39 (by decide) ?_
            refine lv_istore (lv' := [(4, .int (x3 - x2)), (0, .ref m0), (1, .int x1), (2, .int x2), (3, .int x3)]) hx hb dX5_width_45 hl (by decide) rfl (fun ls hl => ?_)
            refine lv_iload hx hb dX5_width_47 (lv_at hl 0 rfl) ?_
            refine lv_iload_n hx hb dX5_width_49 rfl (lv_at hl 2 rfl) ?_
            refine lv_icmp_le (tgt := 67) hx hb dX5_width_50 (by decide) (fun c9 => ?_) (fun c9 => ?_)
            · replace hF := it_t c9 hF
              refine lv_iload_n hx hb dX5_width_67 rfl (lv_at hl 2 rfl) ?_
              refine lv_istore_n (lv' := [(1, .int x1), (4, .int (x3 - x2)), (0, .ref m0), (2, .int x2), (3, .int x3)]) hx hb dX5_width_68 rfl hl (by decide) rfl (fun ls hl => ?_)
              refine lv_iinc (v := (x3 + 1)) (lv' := [(3, .int (x3 + 1)), (1, .int x1), (4, .int (x3 - x2)), (0, .ref m0), (2, .int x2)]) hx hb dX5_width_69 hl (k := 4) rfl rfl (by decide) rfl (fun ls hl => ?_)
              refine lv_goto (tgt := 21) hx hb dX5_width_72 (by decide) ?_
              exact lp2 σ x1 x2 (x3 + 1) (x3 - x2) hF _ _ hP hD hS ls (lv_sub hl [3, 1, 4, 0] rfl)
            · replace hF := it_f c9 hF
              refine lv_aload_n hx hb dX5_width_53 rfl (lv_at hl 1 rfl) ?_
              refine lv_iload_n hx hb dX5_width_54 rfl (lv_at hl 3 rfl) ?_
              refine lv_iload_n hx hb dX5_width_55 rfl (lv_at hl 4 rfl) ?_
              obtain ⟨r10, u10, e10, hF⟩ := bnd_s hF
              refine tw_calli (va_runV (As := [.int x2, .int x3]) (rest := []) ⟨hx, hb, hml, hown, hts⟩ (mt_projectedOf l dC dI cI cZ m0 ad H.size σ n  x2 x3 _ e10) (cwV 2 hts (lw_V q2336 q2338 qs87 q125 q2339) rfl rfl rfl (by decide +kernel) ⟨Nat.le_of_ble_eq_true rfl, Nat.le_of_ble_eq_true rfl⟩) (tw_preV hK hP hD _) rfl rfl hl.1 rfl (lv_room (Nat.le_of_ble_eq_true rfl)) dX5_width_56 ⟨Nat.le_of_ble_eq_true rfl, Nat.le_of_ble_eq_true rfl⟩) hS hD hAA (fun rr uu H locs hw hP hD hS => ?_)
              obtain rfl : r10 = rr := (congrArg Prod.fst hw).symm
              obtain rfl : u10 = uu := (congrArg Prod.snd hw).symm
              refine lv_if_eq (tgt := 67) hx hb dX5_width_59 (by decide) (fun c11 => ?_) (fun c11 => ?_)
              · replace hF := it_t c11 hF
                refine lv_iload_n hx hb dX5_width_67 rfl (lv_at hl 2 rfl) ?_
                refine lv_istore_n (lv' := [(1, .int x1), (4, .int (x3 - x2)), (0, .ref m0), (2, .int x2), (3, .int x3)]) hx hb dX5_width_68 rfl hl (by decide) rfl (fun ls hl => ?_)
                refine lv_iinc (v := (x3 + 1)) (lv' := [(3, .int (x3 + 1)), (1, .int x1), (4, .int (x3 - x2)), (0, .ref m0), (2, .int x2)]) hx hb dX5_width_69 hl (k := 4) rfl rfl (by decide) rfl (fun ls hl => ?_)
                refine lv_goto (tgt := 21) hx hb dX5_width_72 (by decide) ?_
                exact lp2 u10 x1 x2 (x3 + 1) (x3 - x2) hF _ _ hP hD hS ls (lv_sub hl [3, 1, 4, 0] rfl)
              · replace hF := it_f c11 hF
                refine lv_iload hx hb dX5_width_62 (lv_at hl 0 rfl) ?_
                refine lv_goto (tgt := 68) hx hb dX5_width_64 (by decide) ?_
                refine lv_istore_n (lv' := [(1, .int (x3 - x2)), (4, .int (x3 - x2)), (0, .ref m0), (2, .int x2), (3, .int x3)]) hx hb dX5_width_68 rfl hl (by decide) rfl (fun ls hl => ?_)
                refine lv_iinc (v := (x3 + 1)) (lv' := [(3, .int (x3 + 1)), (1, .int (x3 - x2)), (4, .int (x3 - x2)), (0, .ref m0), (2, .int x2)]) hx hb dX5_width_69 hl (k := 4) rfl rfl (by decide) rfl (fun ls hl => ?_)
                refine lv_goto (tgt := 21) hx hb dX5_width_72 (by decide) ?_
                exact lp2 u10 (x3 - x2) x2 (x3 + 1) (x3 - x2) hF _ _ hP hD hS ls (lv_sub hl [3, 1, 4, 0] rfl)
  obtain ⟨lp1, lp2⟩ := loop n
  unfold F_width F_width_0 at hF
  refine lv_aload_n hx hb dX5_width_0 rfl (lv_at hl 0 rfl) ?_
  refine lv_iconst (v := 0) hx hb dX5_width_1 (by decide) ?_
  refine va_put (D := (dC, dI)) (ci := 0) (v := .int 0) (ty := .int) (C := RX5) (T := TX5) (N := 28) hx hb hts in_X5 tyX5 tyX5_ok nmX5 hown hK hP hD hS 0 tw_g rfl 6 (by decide) (hts _ q1992) (fun _ h9 => h9) rfl (tyX5_ok 6 (by decide)) rfl rfl (Nat.le_of_ble_eq_true rfl) dX5_width_2 (fun H locs hP hD hS => ?_)
  rw [tw_p6] at hP hD
  refine lv_iconst (v := (-1)) hx hb dX5_width_5 (by decide) ?_
  refine lv_istore_n (lv' := [(1, .int (-1)), (0, .ref m0)]) hx hb dX5_width_6 rfl hl (by decide) rfl (fun ls hl => ?_)
  refine lv_iconst (v := 0) hx hb dX5_width_7 (by decide) ?_
  refine lv_istore_n (lv' := [(2, .int 0), (1, .int (-1)), (0, .ref m0)]) hx hb dX5_width_8 rfl hl (by decide) rfl (fun ls hl => ?_)
  exact lp1 (tw_sf σ 6 0) (-1) 0 0 0 hF _ _ hP hD hS ls (lv_sub hl [2, 1, 0] rfl)

def F_laysProjected_1 (R : Nat → Tw → Int32 → Int32 → Int32 → Option (Int32 × Tw)) (n : Nat) (σ : Tw) (x1 : Int32) (x2 : Int32) (x3 : Int32) : Option (Int32 × Tw) := if x1 ≤ x2 then some (0, σ) else R 2 σ x1 x2 0
def F_laysProjected_2 (R : Nat → Tw → Int32 → Int32 → Int32 → Option (Int32 × Tw)) (n : Nat) (σ : Tw) (x1 : Int32) (x2 : Int32) (x3 : Int32) : Option (Int32 × Tw) := if 9 ≤ x3 then if x2 = 0 then gd (inB ((9 * x2) + x1) 72) (R 1 (tw_sa σ 24 (((9 * x2) + x1)).toNatClampNeg 1) x1 (x2 + 1) x3) else gd (inB ((9 * x2) + x1) 72) (R 1 (tw_sa σ 24 (((9 * x2) + x1)).toNatClampNeg 0) x1 (x2 + 1) x3) else if x1 ≤ x3 then gd (inB ((9 * x2) + x3) 72) (R 2 (tw_sa σ 24 (((9 * x2) + x3)).toNatClampNeg 0) x1 x2 (x3 + 1)) else bnd (F_projectedOf n σ x3 x2) (fun r8 u8 => gd (inB ((9 * x2) + x3) 72) (R 2 (tw_sa u8 24 (((9 * x2) + x3)).toNatClampNeg r8) x1 x2 (x3 + 1)))
def F_laysProjected_r : Nat → Nat → Tw → Int32 → Int32 → Int32 → Option (Int32 × Tw)
  | 0 => fun _ _ _ _ _ => none
  | n + 1 => fun k => match k with | 1 => F_laysProjected_1 (F_laysProjected_r n) n | _ => F_laysProjected_2 (F_laysProjected_r n) n
def F_laysProjected_0 (R : Nat → Tw → Int32 → Int32 → Int32 → Option (Int32 × Tw)) (n : Nat) (σ : Tw) (p1 : Int32) : Option (Int32 × Tw) := R 1 σ p1 0 0
def F_laysProjected (n : Nat) (σ : Tw) (p1 : Int32) : Option (Int32 × Tw) := F_laysProjected_0 (F_laysProjected_r n) n σ p1
set_option maxHeartbeats 4000000 in
set_option maxRecDepth 100000 in
theorem mt_laysProjected (l : Launch) (dC : Nat → ClassId) (dI : Nat → Nat → Nat) (cI cZ : ClassId) (m0 : Nat) (ad : Nat → Nat) (sz : Nat) (σ : Tw) (n : Nat)  (p1 : Int32) (out : Int32 × Tw) (hF : F_laysProjected n σ p1 = some out) : Met l yX5_laysProjected (ws_ yX5_laysProjected cX5_laysProjected 4 none) ({ frames := 6, cells := 0, slots := 0, locals := 134 }) (va_Pc [.ref m0, .int p1] (tw_Pre dC dI cI cZ m0 ad sz σ)) (va_Qv (fun u => (0, u) = out) (tw_B dC dI cI cZ m0 ad) (tw_A m0 ad sz)) 0 0 (tw_A m0 ad sz) := by
  refine Met.ofW (cc := cX5_laysProjected) (maxL := 4) (ret := none) (by decide +kernel) rfl ?_
  intro p e s m args below meth c s₁ B hml hv
  obtain ⟨rfl, hsz, hP, hK, hD0⟩ := hv
  have hx := B.exec
  have hb := B.bytes
  have hr := B.returns
  have hts := atoms_spec (ws := (ws_ yX5_laysProjected cX5_laysProjected 4 none)) B.pre
  have hts : ∀ w ∈ lw_all, w.before _ s = true := fun w h => hts w (List.mem_cons_of_mem _ h)
  have hown : s.vm.findClass RX5 = some m.cls := findClass_of_methodNamed B.named
  have hlocks := B.notSynchronized
  subst hsz
  have hD := tw_Ds (z := s.heap.size) hD0
  have hAA := fun z (h : s.heap.size ≤ z) => tw_Am (m0 := m0) (ad := ad) h
  generalize hAe : tw_A m0 ad s.heap.size = A at hD hAA ⊢
  have hS : va_S A s.heap s.heap [] := va_S.rf
  have hP : va_P (dC, dI) vwCl (tw_ws m0 ad cI cZ σ) s.heap := hP
  have hl := lv_entry ([.ref m0, .int p1]) (n := 4) (Nat.le_of_ble_eq_true rfl)
  rw [lg_entry_eq]
  generalize (lg_sl ([.ref m0, .int p1]) ++ List.replicate (4 - (lg_sl ([.ref m0, .int p1])).length) Slot.unset).toArray = ls at hl ⊢
  have hl : lv_has ls 4 [(0, .ref m0), (1, .int p1)] := hl
  have loop : ∀ n : Nat, (∀ (σ : Tw) (x1 x2 x3 : Int32), F_laysProjected_r n 1 σ x1 x2 x3 = some out → ∀ (H : Heap) (locs : List Loc), va_P (dC, dI) vwCl (tw_ws m0 ad cI cZ σ) H → va_D A (tw_ws m0 ad cI cZ σ) → va_S A s.heap H locs → ∀ ls : Array Slot, lv_has ls 4 [(0, .ref m0), (1, .int x1), (2, .int x2)] → W p l e (headSpec (ws_ yX5_laysProjected cX5_laysProjected 4 none) ({ frames := 6, cells := 0, slots := 0, locals := 134 })).room s m ([.ref m0, .int p1] : List Value).toArray below meth c H locs 0 0 (MQ below (va_Qv (fun u => (0, u) = out) (tw_B dC dI cI cZ m0 ad) A) ([.ref m0, .int p1] : List Value).toArray s 0 0 A) (F0 m 2 ls [])) ∧ (∀ (σ : Tw) (x1 x2 x3 : Int32), F_laysProjected_r n 2 σ x1 x2 x3 = some out → ∀ (H : Heap) (locs : List Loc), va_P (dC, dI) vwCl (tw_ws m0 ad cI cZ σ) H → va_D A (tw_ws m0 ad cI cZ σ) → va_S A s.heap H locs → ∀ ls : Array Slot, lv_has ls 4 [(0, .ref m0), (1, .int x1), (2, .int x2), (3, .int x3)] → W p l e (headSpec (ws_ yX5_laysProjected cX5_laysProjected 4 none) ({ frames := 6, cells := 0, slots := 0, locals := 134 })).room s m ([.ref m0, .int p1] : List Value).toArray below meth c H locs 0 0 (MQ below (va_Qv (fun u => (0, u) = out) (tw_B dC dI cI cZ m0 ad) A) ([.ref m0, .int p1] : List Value).toArray s 0 0 A) (F0 m 9 ls [])) := by
    intro n
    induction n with
    | zero => exact ⟨(fun _ _ _ _ h => nomatch h), (fun _ _ _ _ h => nomatch h)⟩
    | succ n ih =>
      obtain ⟨lp1, lp2⟩ := ih
      refine ⟨?_, ?_⟩
      · intro σ x1 x2 x3 hF H locs hP hD hS ls hl
        replace hF : F_laysProjected_1 (F_laysProjected_r n) n σ x1 x2 x3 = some out := hF
        unfold F_laysProjected_1 at hF
        refine lv_iload_n hx hb dX5_laysProjected_2 rfl (lv_at hl 2 rfl) ?_
        refine lv_iload_n hx hb dX5_laysProjected_3 rfl (lv_at hl 1 rfl) ?_
        refine lv_icmp_ge (tgt := 73) hx hb dX5_laysProjected_4 (by decide) (fun c1 => ?_) (fun c1 => ?_)
        · replace hF := it_t c1 hF
          exact W.vret hx hb hr (fun t ht hW => ⟨⟨σ, rfl, Option.some.inj hF, by rw [ht]; exact hP, va_K.moved hW.alike hK⟩, hS.F ht⟩) hS.2.2 dX5_laysProjected_73
        · replace hF := it_f c1 hF
          refine lv_iconst (v := 0) hx hb dX5_laysProjected_7 (by decide) ?_
          refine lv_istore_n (lv' := [(3, .int 0), (0, .ref m0), (1, .int x1), (2, .int x2)]) hx hb dX5_laysProjected_8 rfl hl (by decide) rfl (fun ls hl => ?_)
          exact lp2 σ x1 x2 0 hF _ _ hP hD hS ls (lv_sub hl [1, 2, 3, 0] rfl)
      · intro σ x1 x2 x3 hF H locs hP hD hS ls hl
        replace hF : F_laysProjected_2 (F_laysProjected_r n) n σ x1 x2 x3 = some out := hF
        unfold F_laysProjected_2 at hF
        refine lv_iload_n hx hb dX5_laysProjected_9 rfl (lv_at hl 3 rfl) ?_
        refine lv_bipush (v := 9) hx hb dX5_laysProjected_10 (by decide) ?_
        refine lv_icmp_ge (tgt := 47) hx hb dX5_laysProjected_12 (by decide) (fun c2 => ?_) (fun c2 => ?_)
        · replace hF := it_t c2 hF
          refine lv_aload_n hx hb dX5_laysProjected_47 rfl (lv_at hl 0 rfl) ?_
          refine va_get (D := (dC, dI)) (ci := 0) (v := .ref (ad 24)) (C := RX5) (T := TX5) (N := 28) hx hb hts in_X5 hown hK hP 0 tw_g rfl 24 (by decide) (hts _ q2010) (fun _ h9 => h9) rfl dX5_laysProjected_48 ?_
          refine lv_bipush (v := 9) hx hb dX5_laysProjected_51 (by decide) ?_
          refine lv_iload_n hx hb dX5_laysProjected_53 rfl (lv_at hl 2 rfl) ?_
          refine lv_imul hx hb dX5_laysProjected_54 ?_
          refine lv_iload_n hx hb dX5_laysProjected_55 rfl (lv_at hl 1 rfl) ?_
          refine lv_iadd hx hb dX5_laysProjected_56 ?_
          refine lv_iload_n hx hb dX5_laysProjected_57 rfl (lv_at hl 2 rfl) ?_
          refine lv_if_ne (tgt := 65) hx hb dX5_laysProjected_58 (by decide) (fun c3 => ?_) (fun c3 => ?_)
          · replace hF := it_f c3 hF
            refine lv_iconst (v := 0) hx hb dX5_laysProjected_65 (by decide) ?_
            obtain ⟨g4, hF⟩ := gd_s hF
            refine va_iast hx hb hK hP hD hS 13 0 tw_e24 rfl (x := 0) (inB_in g4) dX5_laysProjected_66 (fun H locs hP hD hS => ?_)
            rw [tw_s24] at hP hD
            refine lv_iinc (v := (x2 + 1)) (lv' := [(2, .int (x2 + 1)), (0, .ref m0), (1, .int x1), (3, .int x3)]) hx hb dX5_laysProjected_67 hl (k := 2) rfl rfl (by decide) rfl (fun ls hl => ?_)
            refine lv_goto (tgt := 2) hx hb dX5_laysProjected_70 (by decide) ?_
            exact lp1 (tw_sa σ 24 (((9 * x2) + x1)).toNatClampNeg 0) x1 (x2 + 1) x3 hF _ _ hP hD hS ls (lv_sub hl [1, 2, 0] rfl)
          · replace hF := it_t c3 hF
            refine lv_iconst (v := 1) hx hb dX5_laysProjected_61 (by decide) ?_
            refine lv_goto (tgt := 66) hx hb dX5_laysProjected_62 (by decide) ?_
            obtain ⟨g5, hF⟩ := gd_s hF
            refine va_iast hx hb hK hP hD hS 13 0 tw_e24 rfl (x := 1) (inB_in g5) dX5_laysProjected_66 (fun H locs hP hD hS => ?_)
            rw [tw_s24] at hP hD
            refine lv_iinc (v := (x2 + 1)) (lv' := [(2, .int (x2 + 1)), (0, .ref m0), (1, .int x1), (3, .int x3)]) hx hb dX5_laysProjected_67 hl (k := 2) rfl rfl (by decide) rfl (fun ls hl => ?_)
            refine lv_goto (tgt := 2) hx hb dX5_laysProjected_70 (by decide) ?_
            exact lp1 (tw_sa σ 24 (((9 * x2) + x1)).toNatClampNeg 1) x1 (x2 + 1) x3 hF _ _ hP hD hS ls (lv_sub hl [1, 2, 0] rfl)
        · replace hF := it_f c2 hF
          refine lv_aload_n hx hb dX5_laysProjected_15 rfl (lv_at hl 0 rfl) ?_
          refine va_get (D := (dC, dI)) (ci := 0) (v := .ref (ad 24)) (C := RX5) (T := TX5) (N := 28) hx hb hts in_X5 hown hK hP 0 tw_g rfl 24 (by decide) (hts _ q2010) (fun _ h9 => h9) rfl dX5_laysProjected_16 ?_
          refine lv_bipush (v := 9) hx hb dX5_laysProjected_19 (by decide) ?_
          refine lv_iload_n hx hb dX5_laysProjected_21 rfl (lv_at hl 2 rfl) ?_
          refine lv_imul hx hb dX5_laysProjected_22 ?_
          refine lv_iload_n hx hb dX5_laysProjected_23 rfl (lv_at hl 3 rfl) ?_
          refine lv_iadd hx hb dX5_laysProjected_24 ?_
          refine lv_iload_n hx hb dX5_laysProjected_25 rfl (lv_at hl 3 rfl) ?_
          refine lv_iload_n hx hb dX5_laysProjected_26 rfl (lv_at hl 1 rfl) ?_
          refine lv_icmp_ge (tgt := 39) hx hb dX5_laysProjected_27 (by decide) (fun c6 => ?_) (fun c6 => ?_)
          · replace hF := it_t c6 hF
            refine lv_iconst (v := 0) hx hb dX5_laysProjected_39 (by decide) ?_
            obtain ⟨g7, hF⟩ := gd_s hF
            refine va_iast hx hb hK hP hD hS 13 0 tw_e24 rfl (x := 0) (inB_in g7) dX5_laysProjected_40 (fun H locs hP hD hS => ?_)
            rw [tw_s24] at hP hD
            refine lv_iinc (v := (x3 + 1)) (lv' := [(3, .int (x3 + 1)), (0, .ref m0), (1, .int x1), (2, .int x2)]) hx hb dX5_laysProjected_41 hl (k := 3) rfl rfl (by decide) rfl (fun ls hl => ?_)
            refine lv_goto (tgt := 9) hx hb dX5_laysProjected_44 (by decide) ?_
            exact lp2 (tw_sa σ 24 (((9 * x2) + x3)).toNatClampNeg 0) x1 x2 (x3 + 1) hF _ _ hP hD hS ls (lv_sub hl [1, 2, 3, 0] rfl)
          · replace hF := it_f c6 hF
            refine lv_aload_n hx hb dX5_laysProjected_30 rfl (lv_at hl 0 rfl) ?_
            refine lv_iload_n hx hb dX5_laysProjected_31 rfl (lv_at hl 3 rfl) ?_
            refine lv_iload_n hx hb dX5_laysProjected_32 rfl (lv_at hl 2 rfl) ?_
            obtain ⟨r8, u8, e8, hF⟩ := bnd_s hF
            refine tw_calli (va_runV (As := [.int x3, .int x2]) (rest := [.int ((9 * x2) + x3), .ref (ad 24)]) ⟨hx, hb, hml, hown, hts⟩ (mt_projectedOf l dC dI cI cZ m0 ad H.size σ n  x3 x2 _ e8) (cwV 2 hts (lw_V q2336 q2338 qs87 q125 q2339) rfl rfl rfl (by decide +kernel) ⟨Nat.le_of_ble_eq_true rfl, Nat.le_of_ble_eq_true rfl⟩) (tw_preV hK hP hD _) rfl rfl hl.1 rfl (lv_room (Nat.le_of_ble_eq_true rfl)) dX5_laysProjected_33 ⟨Nat.le_of_ble_eq_true rfl, Nat.le_of_ble_eq_true rfl⟩) hS hD hAA (fun rr uu H locs hw hP hD hS => ?_)
            obtain rfl : r8 = rr := (congrArg Prod.fst hw).symm
            obtain rfl : u8 = uu := (congrArg Prod.snd hw).symm
            refine lv_goto (tgt := 40) hx hb dX5_laysProjected_36 (by decide) ?_
            obtain ⟨g9, hF⟩ := gd_s hF
            refine va_iast hx hb hK hP hD hS 13 0 tw_e24 rfl (x := r8) (inB_in g9) dX5_laysProjected_40 (fun H locs hP hD hS => ?_)
            rw [tw_s24] at hP hD
            refine lv_iinc (v := (x3 + 1)) (lv' := [(3, .int (x3 + 1)), (0, .ref m0), (1, .int x1), (2, .int x2)]) hx hb dX5_laysProjected_41 hl (k := 3) rfl rfl (by decide) rfl (fun ls hl => ?_)
            refine lv_goto (tgt := 9) hx hb dX5_laysProjected_44 (by decide) ?_
            exact lp2 (tw_sa u8 24 (((9 * x2) + x3)).toNatClampNeg r8) x1 x2 (x3 + 1) hF _ _ hP hD hS ls (lv_sub hl [1, 2, 3, 0] rfl)
  obtain ⟨lp1, lp2⟩ := loop n
  unfold F_laysProjected F_laysProjected_0 at hF
  refine lv_iconst (v := 0) hx hb dX5_laysProjected_0 (by decide) ?_
  refine lv_istore_n (lv' := [(2, .int 0), (0, .ref m0), (1, .int p1)]) hx hb dX5_laysProjected_1 rfl hl (by decide) rfl (fun ls hl => ?_)
  exact lp1 σ p1 0 0 hF _ _ hP hD hS ls (lv_sub hl [1, 2, 0] rfl)

def F_determinant (n : Nat) (σ : Tw) : Option (Int32 × Tw) := gd (inB 5 162) (bnd (F_laysProjected n (tw_sf σ 6 0) (((tw_sf σ 6 0)).2 0 (5 : Int32).toNatClampNeg)) (fun r2 u2 => gd (inB 5 162) (gd (inB 5 162) (bnd (F_ranks n u2 ((u2).2 0 (5 : Int32).toNatClampNeg) ((u2).2 0 (5 : Int32).toNatClampNeg)) (fun r5 u5 => some ((((tw_sf u5 20 r5)).1 25), (tw_sf u5 20 r5)))))))
set_option maxHeartbeats 4000000 in
set_option maxRecDepth 100000 in
theorem mt_determinant (l : Launch) (dC : Nat → ClassId) (dI : Nat → Nat → Nat) (cI cZ : ClassId) (m0 : Nat) (ad : Nat → Nat) (sz : Nat) (σ : Tw) (n : Nat)  (out : Int32 × Tw) (hF : F_determinant n σ  = some out) : Met l yX5_determinant (ws_ yX5_determinant cX5_determinant 1 (some .int)) ({ frames := 7, cells := 0, slots := 0, locals := 157 }) (va_Pc [.ref m0] (tw_Pre dC dI cI cZ m0 ad sz σ)) (va_Qi (fun r u => (r, u) = out) (tw_B dC dI cI cZ m0 ad) (tw_A m0 ad sz)) 0 0 (tw_A m0 ad sz) := by
  refine Met.ofW (cc := cX5_determinant) (maxL := 1) (ret := (some .int)) (by decide +kernel) rfl ?_
  intro p e s m args below meth c s₁ B hml hv
  obtain ⟨rfl, hsz, hP, hK, hD0⟩ := hv
  have hx := B.exec
  have hb := B.bytes
  have hr := B.returns
  have hts := atoms_spec (ws := (ws_ yX5_determinant cX5_determinant 1 (some .int))) B.pre
  have hts : ∀ w ∈ lw_all, w.before _ s = true := fun w h => hts w (List.mem_cons_of_mem _ h)
  have hown : s.vm.findClass RX5 = some m.cls := findClass_of_methodNamed B.named
  have hlocks := B.notSynchronized
  subst hsz
  have hD := tw_Ds (z := s.heap.size) hD0
  have hAA := fun z (h : s.heap.size ≤ z) => tw_Am (m0 := m0) (ad := ad) h
  generalize hAe : tw_A m0 ad s.heap.size = A at hD hAA ⊢
  have hS : va_S A s.heap s.heap [] := va_S.rf
  have hP : va_P (dC, dI) vwCl (tw_ws m0 ad cI cZ σ) s.heap := hP
  have hl := lv_entry ([.ref m0]) (n := 1) (Nat.le_of_ble_eq_true rfl)
  rw [lg_entry_eq]
  generalize (lg_sl ([.ref m0]) ++ List.replicate (1 - (lg_sl ([.ref m0])).length) Slot.unset).toArray = ls at hl ⊢
  have hl : lv_has ls 1 [(0, .ref m0)] := hl
  unfold F_determinant at hF
  refine lv_aload_n hx hb dX5_determinant_0 rfl (lv_at hl 0 rfl) ?_
  refine lv_iconst (v := 0) hx hb dX5_determinant_1 (by decide) ?_
  refine va_put (D := (dC, dI)) (ci := 0) (v := .int 0) (ty := .int) (C := RX5) (T := TX5) (N := 28) hx hb hts in_X5 tyX5 tyX5_ok nmX5 hown hK hP hD hS 0 tw_g rfl 6 (by decide) (hts _ q1992) (fun _ h9 => h9) rfl (tyX5_ok 6 (by decide)) rfl rfl (Nat.le_of_ble_eq_true rfl) dX5_determinant_2 (fun H locs hP hD hS => ?_)
  rw [tw_p6] at hP hD
  refine lv_aload_n hx hb dX5_determinant_5 rfl (lv_at hl 0 rfl) ?_
  refine lv_aload_n hx hb dX5_determinant_6 rfl (lv_at hl 0 rfl) ?_
  refine va_get (D := (dC, dI)) (ci := 0) (v := .ref (ad 0)) (C := RX5) (T := TX5) (N := 28) hx hb hts in_X5 hown hK hP 0 tw_g rfl 0 (by decide) (hts _ q1986) (fun _ h9 => h9) rfl dX5_determinant_7 ?_
  refine lv_iconst (v := 5) hx hb dX5_determinant_10 (by decide) ?_
  obtain ⟨g1, hF⟩ := gd_s hF
  refine va_iald hx hb hK hP 1 0 tw_e0 rfl (inB_in g1) dX5_determinant_11 ?_
  obtain ⟨r2, u2, e2, hF⟩ := bnd_s hF
  refine tw_callv (va_runV (As := [.int (((tw_sf σ 6 0)).2 0 (5 : Int32).toNatClampNeg)]) (rest := []) ⟨hx, hb, hml, hown, hts⟩ (mt_laysProjected l dC dI cI cZ m0 ad H.size (tw_sf σ 6 0) n  (((tw_sf σ 6 0)).2 0 (5 : Int32).toNatClampNeg) _ e2) (cwV 1 hts (lw_V q2412 q2414 qs94 q125 q2415) rfl rfl rfl (by decide +kernel) ⟨Nat.le_of_ble_eq_true rfl, Nat.le_of_ble_eq_true rfl⟩) (tw_preV hK hP hD _) rfl rfl hl.1 rfl (lv_room (Nat.le_of_ble_eq_true rfl)) dX5_determinant_12 ⟨Nat.le_of_ble_eq_true rfl, Nat.le_of_ble_eq_true rfl⟩) hS hD hAA (fun uu H locs hw hP hD hS => ?_)
  obtain rfl : u2 = uu := (congrArg Prod.snd hw).symm
  refine lv_aload_n hx hb dX5_determinant_15 rfl (lv_at hl 0 rfl) ?_
  refine lv_aload_n hx hb dX5_determinant_16 rfl (lv_at hl 0 rfl) ?_
  refine lv_aload_n hx hb dX5_determinant_17 rfl (lv_at hl 0 rfl) ?_
  refine va_get (D := (dC, dI)) (ci := 0) (v := .ref (ad 0)) (C := RX5) (T := TX5) (N := 28) hx hb hts in_X5 hown hK hP 0 tw_g rfl 0 (by decide) (hts _ q1986) (fun _ h9 => h9) rfl dX5_determinant_18 ?_
  refine lv_iconst (v := 5) hx hb dX5_determinant_21 (by decide) ?_
  obtain ⟨g3, hF⟩ := gd_s hF
  refine va_iald hx hb hK hP 1 0 tw_e0 rfl (inB_in g3) dX5_determinant_22 ?_
  refine lv_aload_n hx hb dX5_determinant_23 rfl (lv_at hl 0 rfl) ?_
  refine va_get (D := (dC, dI)) (ci := 0) (v := .ref (ad 0)) (C := RX5) (T := TX5) (N := 28) hx hb hts in_X5 hown hK hP 0 tw_g rfl 0 (by decide) (hts _ q1986) (fun _ h9 => h9) rfl dX5_determinant_24 ?_
  refine lv_iconst (v := 5) hx hb dX5_determinant_27 (by decide) ?_
  obtain ⟨g4, hF⟩ := gd_s hF
  refine va_iald hx hb hK hP 1 0 tw_e0 rfl (inB_in g4) dX5_determinant_28 ?_
  obtain ⟨r5, u5, e5, hF⟩ := bnd_s hF
  refine tw_calli (va_runV (As := [.int ((u2).2 0 (5 : Int32).toNatClampNeg), .int ((u2).2 0 (5 : Int32).toNatClampNeg)]) (rest := [.ref m0]) ⟨hx, hb, hml, hown, hts⟩ (mt_ranks l dC dI cI cZ m0 ad H.size u2 n  ((u2).2 0 (5 : Int32).toNatClampNeg) ((u2).2 0 (5 : Int32).toNatClampNeg) _ e5) (cwV 2 hts (lw_V q2384 q2386 qs90 q125 q2387) rfl rfl rfl (by decide +kernel) ⟨Nat.le_of_ble_eq_true rfl, Nat.le_of_ble_eq_true rfl⟩) (tw_preV hK hP hD _) rfl rfl hl.1 rfl (lv_room (Nat.le_of_ble_eq_true rfl)) dX5_determinant_29 ⟨Nat.le_of_ble_eq_true rfl, Nat.le_of_ble_eq_true rfl⟩) hS hD hAA (fun rr uu H locs hw hP hD hS => ?_)
  obtain rfl : r5 = rr := (congrArg Prod.fst hw).symm
  obtain rfl : u5 = uu := (congrArg Prod.snd hw).symm
  refine va_put (D := (dC, dI)) (ci := 0) (v := .int r5) (ty := .int) (C := RX5) (T := TX5) (N := 28) hx hb hts in_X5 tyX5 tyX5_ok nmX5 hown hK hP hD hS 0 tw_g rfl 20 (by decide) (hts _ q2006) (fun _ h9 => h9) rfl (tyX5_ok 20 (by decide)) rfl rfl (Nat.le_of_ble_eq_true rfl) dX5_determinant_32 (fun H locs hP hD hS => ?_)
  rw [tw_p20] at hP hD
  refine lv_aload_n hx hb dX5_determinant_35 rfl (lv_at hl 0 rfl) ?_
  refine va_get (D := (dC, dI)) (ci := 0) (v := .int (((tw_sf u5 20 r5)).1 25)) (C := RX5) (T := TX5) (N := 28) hx hb hts in_X5 hown hK hP 0 tw_g rfl 25 (by decide) (hts _ q2011) (fun _ h9 => h9) rfl dX5_determinant_36 ?_
  exact W.iret (v := (((tw_sf u5 20 r5)).1 25)) hx hb hr (fun t ht hW => ⟨⟨(((tw_sf u5 20 r5)).1 25), (tw_sf u5 20 r5), rfl, Option.some.inj hF, by rw [ht]; exact hP, va_K.moved hW.alike hK⟩, hS.F ht⟩) hS.2.2 dX5_determinant_39

def F_filled_1 (R : Nat → Tw → Int32 → Int32 → Int32 → Option (UInt32 × Tw)) (n : Nat) (σ : Tw) (x1 : Int32) (x2 : Int32) (x3 : Int32) : Option (UInt32 × Tw) := gd (inB 5 162) (if ((σ).2 0 (5 : Int32).toNatClampNeg) ≤ x2 then gd (inB 5 162) (if ((σ).2 0 (5 : Int32).toNatClampNeg) = 0 then some (FP.fconst0, σ) else gd (inB 5 162) (gd (inB 5 162) (gd (nanB (FP.fdiv (FP.i2f x1) (FP.i2f (((σ).2 0 (5 : Int32).toNatClampNeg) * ((σ).2 0 (5 : Int32).toNatClampNeg))))) (some ((FP.fdiv (FP.i2f x1) (FP.i2f (((σ).2 0 (5 : Int32).toNatClampNeg) * ((σ).2 0 (5 : Int32).toNatClampNeg)))), σ))))) else R 2 σ x1 x2 0)
def F_filled_2 (R : Nat → Tw → Int32 → Int32 → Int32 → Option (UInt32 × Tw)) (n : Nat) (σ : Tw) (x1 : Int32) (x2 : Int32) (x3 : Int32) : Option (UInt32 × Tw) := gd (inB 5 162) (if ((σ).2 0 (5 : Int32).toNatClampNeg) ≤ x3 then R 1 σ x1 (x2 + 1) x3 else bnd (F_projectedOf n σ x2 x3) (fun r10 u10 => if r10 = 0 then R 2 u10 (x1 + 0) x2 (x3 + 1) else R 2 u10 (x1 + 1) x2 (x3 + 1)))
def F_filled_r : Nat → Nat → Tw → Int32 → Int32 → Int32 → Option (UInt32 × Tw)
  | 0 => fun _ _ _ _ _ => none
  | n + 1 => fun k => match k with | 1 => F_filled_1 (F_filled_r n) n | _ => F_filled_2 (F_filled_r n) n
def F_filled_0 (R : Nat → Tw → Int32 → Int32 → Int32 → Option (UInt32 × Tw)) (n : Nat) (σ : Tw) : Option (UInt32 × Tw) := R 1 (tw_sf σ 6 0) 0 0 0
def F_filled (n : Nat) (σ : Tw) : Option (UInt32 × Tw) := F_filled_0 (F_filled_r n) n σ 
set_option maxHeartbeats 4000000 in
set_option maxRecDepth 100000 in
theorem mt_filled (l : Launch) (dC : Nat → ClassId) (dI : Nat → Nat → Nat) (cI cZ : ClassId) (m0 : Nat) (ad : Nat → Nat) (sz : Nat) (σ : Tw) (n : Nat)  (out : UInt32 × Tw) (hF : F_filled n σ  = some out) : Met l yX5_filled (ws_ yX5_filled cX5_filled 4 (some .float)) ({ frames := 6, cells := 0, slots := 0, locals := 134 }) (va_Pc [.ref m0] (tw_Pre dC dI cI cZ m0 ad sz σ)) (va_Qf (fun r u => (r, u) = out) (tw_B dC dI cI cZ m0 ad) (tw_A m0 ad sz)) 0 0 (tw_A m0 ad sz) := by
  refine Met.ofW (cc := cX5_filled) (maxL := 4) (ret := (some .float)) (by decide +kernel) rfl ?_
  intro p e s m args below meth c s₁ B hml hv
  obtain ⟨rfl, hsz, hP, hK, hD0⟩ := hv
  have hx := B.exec
  have hb := B.bytes
  have hr := B.returns
  have hts := atoms_spec (ws := (ws_ yX5_filled cX5_filled 4 (some .float))) B.pre
  have hts : ∀ w ∈ lw_all, w.before _ s = true := fun w h => hts w (List.mem_cons_of_mem _ h)
  have hown : s.vm.findClass RX5 = some m.cls := findClass_of_methodNamed B.named
  have hlocks := B.notSynchronized
  subst hsz
  have hD := tw_Ds (z := s.heap.size) hD0
  have hAA := fun z (h : s.heap.size ≤ z) => tw_Am (m0 := m0) (ad := ad) h
  generalize hAe : tw_A m0 ad s.heap.size = A at hD hAA ⊢
  have hS : va_S A s.heap s.heap [] := va_S.rf
  have hP : va_P (dC, dI) vwCl (tw_ws m0 ad cI cZ σ) s.heap := hP
  have hl := lv_entry ([.ref m0]) (n := 4) (Nat.le_of_ble_eq_true rfl)
  rw [lg_entry_eq]
  generalize (lg_sl ([.ref m0]) ++ List.replicate (4 - (lg_sl ([.ref m0])).length) Slot.unset).toArray = ls at hl ⊢
  have hl : lv_has ls 4 [(0, .ref m0)] := hl
  have loop : ∀ n : Nat, (∀ (σ : Tw) (x1 x2 x3 : Int32), F_filled_r n 1 σ x1 x2 x3 = some out → ∀ (H : Heap) (locs : List Loc), va_P (dC, dI) vwCl (tw_ws m0 ad cI cZ σ) H → va_D A (tw_ws m0 ad cI cZ σ) → va_S A s.heap H locs → ∀ ls : Array Slot, lv_has ls 4 [(0, .ref m0), (1, .int x1), (2, .int x2)] → W p l e (headSpec (ws_ yX5_filled cX5_filled 4 (some .float)) ({ frames := 6, cells := 0, slots := 0, locals := 134 })).room s m ([.ref m0] : List Value).toArray below meth c H locs 0 0 (MQ below (va_Qf (fun r u => (r, u) = out) (tw_B dC dI cI cZ m0 ad) A) ([.ref m0] : List Value).toArray s 0 0 A) (F0 m 9 ls [])) ∧ (∀ (σ : Tw) (x1 x2 x3 : Int32), F_filled_r n 2 σ x1 x2 x3 = some out → ∀ (H : Heap) (locs : List Loc), va_P (dC, dI) vwCl (tw_ws m0 ad cI cZ σ) H → va_D A (tw_ws m0 ad cI cZ σ) → va_S A s.heap H locs → ∀ ls : Array Slot, lv_has ls 4 [(0, .ref m0), (1, .int x1), (2, .int x2), (3, .int x3)] → W p l e (headSpec (ws_ yX5_filled cX5_filled 4 (some .float)) ({ frames := 6, cells := 0, slots := 0, locals := 134 })).room s m ([.ref m0] : List Value).toArray below meth c H locs 0 0 (MQ below (va_Qf (fun r u => (r, u) = out) (tw_B dC dI cI cZ m0 ad) A) ([.ref m0] : List Value).toArray s 0 0 A) (F0 m 21 ls [])) := by
    intro n
    induction n with
    | zero => exact ⟨(fun _ _ _ _ h => nomatch h), (fun _ _ _ _ h => nomatch h)⟩
    | succ n ih =>
      obtain ⟨lp1, lp2⟩ := ih
      refine ⟨?_, ?_⟩
      · intro σ x1 x2 x3 hF H locs hP hD hS ls hl
        replace hF : F_filled_1 (F_filled_r n) n σ x1 x2 x3 = some out := hF
        unfold F_filled_1 at hF
        refine lv_iload_n hx hb dX5_filled_9 rfl (lv_at hl 2 rfl) ?_
        refine lv_aload_n hx hb dX5_filled_10 rfl (lv_at hl 0 rfl) ?_
        refine va_get (D := (dC, dI)) (ci := 0) (v := .ref (ad 0)) (C := RX5) (T := TX5) (N := 28) hx hb hts in_X5 hown hK hP 0 tw_g rfl 0 (by decide) (hts _ q1986) (fun _ h9 => h9) rfl dX5_filled_11 ?_
        refine lv_iconst (v := 5) hx hb dX5_filled_14 (by decide) ?_
        obtain ⟨g1, hF⟩ := gd_s hF
        refine va_iald hx hb hK hP 1 0 tw_e0 rfl (inB_in g1) dX5_filled_15 ?_
        refine lv_icmp_ge (tgt := 60) hx hb dX5_filled_16 (by decide) (fun c2 => ?_) (fun c2 => ?_)
        · replace hF := it_t c2 hF
          refine lv_aload_n hx hb dX5_filled_60 rfl (lv_at hl 0 rfl) ?_
          refine va_get (D := (dC, dI)) (ci := 0) (v := .ref (ad 0)) (C := RX5) (T := TX5) (N := 28) hx hb hts in_X5 hown hK hP 0 tw_g rfl 0 (by decide) (hts _ q1986) (fun _ h9 => h9) rfl dX5_filled_61 ?_
          refine lv_iconst (v := 5) hx hb dX5_filled_64 (by decide) ?_
          obtain ⟨g3, hF⟩ := gd_s hF
          refine va_iald hx hb hK hP 1 0 tw_e0 rfl (inB_in g3) dX5_filled_65 ?_
          refine lv_if_ne (tgt := 73) hx hb dX5_filled_66 (by decide) (fun c4 => ?_) (fun c4 => ?_)
          · replace hF := it_f c4 hF
            refine lv_iload_n hx hb dX5_filled_73 rfl (lv_at hl 1 rfl) ?_
            refine lv_i2f hx hb dX5_filled_74 ?_
            refine lv_aload_n hx hb dX5_filled_75 rfl (lv_at hl 0 rfl) ?_
            refine va_get (D := (dC, dI)) (ci := 0) (v := .ref (ad 0)) (C := RX5) (T := TX5) (N := 28) hx hb hts in_X5 hown hK hP 0 tw_g rfl 0 (by decide) (hts _ q1986) (fun _ h9 => h9) rfl dX5_filled_76 ?_
            refine lv_iconst (v := 5) hx hb dX5_filled_79 (by decide) ?_
            obtain ⟨g5, hF⟩ := gd_s hF
            refine va_iald hx hb hK hP 1 0 tw_e0 rfl (inB_in g5) dX5_filled_80 ?_
            refine lv_aload_n hx hb dX5_filled_81 rfl (lv_at hl 0 rfl) ?_
            refine va_get (D := (dC, dI)) (ci := 0) (v := .ref (ad 0)) (C := RX5) (T := TX5) (N := 28) hx hb hts in_X5 hown hK hP 0 tw_g rfl 0 (by decide) (hts _ q1986) (fun _ h9 => h9) rfl dX5_filled_82 ?_
            refine lv_iconst (v := 5) hx hb dX5_filled_85 (by decide) ?_
            obtain ⟨g6, hF⟩ := gd_s hF
            refine va_iald hx hb hK hP 1 0 tw_e0 rfl (inB_in g6) dX5_filled_86 ?_
            refine lv_imul hx hb dX5_filled_87 ?_
            refine lv_i2f hx hb dX5_filled_88 ?_
            obtain ⟨g7, hF⟩ := gd_s hF
            refine lv_fdiv hx hb dX5_filled_89 (nan_of g7) ?_
            exact W.fret (v := (FP.fdiv (FP.i2f x1) (FP.i2f (((σ).2 0 (5 : Int32).toNatClampNeg) * ((σ).2 0 (5 : Int32).toNatClampNeg))))) hx hb hr (fun t ht hW => ⟨⟨(FP.fdiv (FP.i2f x1) (FP.i2f (((σ).2 0 (5 : Int32).toNatClampNeg) * ((σ).2 0 (5 : Int32).toNatClampNeg)))), σ, rfl, Option.some.inj hF, by rw [ht]; exact hP, va_K.moved hW.alike hK⟩, hS.F ht⟩) hS.2.2 dX5_filled_90
          · replace hF := it_t c4 hF
            refine lv_fconst0 hx hb dX5_filled_69 ?_
            refine lv_goto (tgt := 90) hx hb dX5_filled_70 (by decide) ?_
            exact W.fret (v := FP.fconst0) hx hb hr (fun t ht hW => ⟨⟨FP.fconst0, σ, rfl, Option.some.inj hF, by rw [ht]; exact hP, va_K.moved hW.alike hK⟩, hS.F ht⟩) hS.2.2 dX5_filled_90
        · replace hF := it_f c2 hF
          refine lv_iconst (v := 0) hx hb dX5_filled_19 (by decide) ?_
          refine lv_istore_n (lv' := [(3, .int 0), (0, .ref m0), (1, .int x1), (2, .int x2)]) hx hb dX5_filled_20 rfl hl (by decide) rfl (fun ls hl => ?_)
          exact lp2 σ x1 x2 0 hF _ _ hP hD hS ls (lv_sub hl [1, 2, 3, 0] rfl)
      · intro σ x1 x2 x3 hF H locs hP hD hS ls hl
        replace hF : F_filled_2 (F_filled_r n) n σ x1 x2 x3 = some out := hF
        unfold F_filled_2 at hF
        refine lv_iload_n hx hb dX5_filled_21 rfl (lv_at hl 3 rfl) ?_
        refine lv_aload_n hx hb dX5_filled_22 rfl (lv_at hl 0 rfl) ?_
        refine va_get (D := (dC, dI)) (ci := 0) (v := .ref (ad 0)) (C := RX5) (T := TX5) (N := 28) hx hb hts in_X5 hown hK hP 0 tw_g rfl 0 (by decide) (hts _ q1986) (fun _ h9 => h9) rfl dX5_filled_23 ?_
        refine lv_iconst (v := 5) hx hb dX5_filled_26 (by decide) ?_
        obtain ⟨g8, hF⟩ := gd_s hF
        refine va_iald hx hb hK hP 1 0 tw_e0 rfl (inB_in g8) dX5_filled_27 ?_
        refine lv_icmp_ge (tgt := 54) hx hb dX5_filled_28 (by decide) (fun c9 => ?_) (fun c9 => ?_)
        · replace hF := it_t c9 hF
          refine lv_iinc (v := (x2 + 1)) (lv' := [(2, .int (x2 + 1)), (0, .ref m0), (1, .int x1), (3, .int x3)]) hx hb dX5_filled_54 hl (k := 2) rfl rfl (by decide) rfl (fun ls hl => ?_)
          refine lv_goto (tgt := 9) hx hb dX5_filled_57 (by decide) ?_
          exact lp1 σ x1 (x2 + 1) x3 hF _ _ hP hD hS ls (lv_sub hl [1, 2, 0] rfl)
        · replace hF := it_f c9 hF
          refine lv_iload_n hx hb dX5_filled_31 rfl (lv_at hl 1 rfl) ?_
          refine lv_aload_n hx hb dX5_filled_32 rfl (lv_at hl 0 rfl) ?_
          refine lv_iload_n hx hb dX5_filled_33 rfl (lv_at hl 2 rfl) ?_
          refine lv_iload_n hx hb dX5_filled_34 rfl (lv_at hl 3 rfl) ?_
          obtain ⟨r10, u10, e10, hF⟩ := bnd_s hF
          refine tw_calli (va_runV (As := [.int x2, .int x3]) (rest := [.int x1]) ⟨hx, hb, hml, hown, hts⟩ (mt_projectedOf l dC dI cI cZ m0 ad H.size σ n  x2 x3 _ e10) (cwV 2 hts (lw_V q2336 q2338 qs87 q125 q2339) rfl rfl rfl (by decide +kernel) ⟨Nat.le_of_ble_eq_true rfl, Nat.le_of_ble_eq_true rfl⟩) (tw_preV hK hP hD _) rfl rfl hl.1 rfl (lv_room (Nat.le_of_ble_eq_true rfl)) dX5_filled_35 ⟨Nat.le_of_ble_eq_true rfl, Nat.le_of_ble_eq_true rfl⟩) hS hD hAA (fun rr uu H locs hw hP hD hS => ?_)
          obtain rfl : r10 = rr := (congrArg Prod.fst hw).symm
          obtain rfl : u10 = uu := (congrArg Prod.snd hw).symm
          refine lv_if_ne (tgt := 45) hx hb dX5_filled_38 (by decide) (fun c11 => ?_) (fun c11 => ?_)
          · replace hF := it_f c11 hF
            refine lv_iconst (v := 1) hx hb dX5_filled_45 (by decide) ?_
            refine lv_iadd hx hb dX5_filled_46 ?_
            refine lv_istore_n (lv' := [(1, .int (x1 + 1)), (0, .ref m0), (2, .int x2), (3, .int x3)]) hx hb dX5_filled_47 rfl hl (by decide) rfl (fun ls hl => ?_)
            refine lv_iinc (v := (x3 + 1)) (lv' := [(3, .int (x3 + 1)), (1, .int (x1 + 1)), (0, .ref m0), (2, .int x2)]) hx hb dX5_filled_48 hl (k := 3) rfl rfl (by decide) rfl (fun ls hl => ?_)
            refine lv_goto (tgt := 21) hx hb dX5_filled_51 (by decide) ?_
            exact lp2 u10 (x1 + 1) x2 (x3 + 1) hF _ _ hP hD hS ls (lv_sub hl [2, 1, 3, 0] rfl)
          · replace hF := it_t c11 hF
            refine lv_iconst (v := 0) hx hb dX5_filled_41 (by decide) ?_
            refine lv_goto (tgt := 46) hx hb dX5_filled_42 (by decide) ?_
            refine lv_iadd hx hb dX5_filled_46 ?_
            refine lv_istore_n (lv' := [(1, .int (x1 + 0)), (0, .ref m0), (2, .int x2), (3, .int x3)]) hx hb dX5_filled_47 rfl hl (by decide) rfl (fun ls hl => ?_)
            refine lv_iinc (v := (x3 + 1)) (lv' := [(3, .int (x3 + 1)), (1, .int (x1 + 0)), (0, .ref m0), (2, .int x2)]) hx hb dX5_filled_48 hl (k := 3) rfl rfl (by decide) rfl (fun ls hl => ?_)
            refine lv_goto (tgt := 21) hx hb dX5_filled_51 (by decide) ?_
            exact lp2 u10 (x1 + 0) x2 (x3 + 1) hF _ _ hP hD hS ls (lv_sub hl [2, 1, 3, 0] rfl)
  obtain ⟨lp1, lp2⟩ := loop n
  unfold F_filled F_filled_0 at hF
  refine lv_aload_n hx hb dX5_filled_0 rfl (lv_at hl 0 rfl) ?_
  refine lv_iconst (v := 0) hx hb dX5_filled_1 (by decide) ?_
  refine va_put (D := (dC, dI)) (ci := 0) (v := .int 0) (ty := .int) (C := RX5) (T := TX5) (N := 28) hx hb hts in_X5 tyX5 tyX5_ok nmX5 hown hK hP hD hS 0 tw_g rfl 6 (by decide) (hts _ q1992) (fun _ h9 => h9) rfl (tyX5_ok 6 (by decide)) rfl rfl (Nat.le_of_ble_eq_true rfl) dX5_filled_2 (fun H locs hP hD hS => ?_)
  rw [tw_p6] at hP hD
  refine lv_iconst (v := 0) hx hb dX5_filled_5 (by decide) ?_
  refine lv_istore_n (lv' := [(1, .int 0), (0, .ref m0)]) hx hb dX5_filled_6 rfl hl (by decide) rfl (fun ls hl => ?_)
  refine lv_iconst (v := 0) hx hb dX5_filled_7 (by decide) ?_
  refine lv_istore_n (lv' := [(2, .int 0), (1, .int 0), (0, .ref m0)]) hx hb dX5_filled_8 rfl hl (by decide) rfl (fun ls hl => ?_)
  exact lp1 (tw_sf σ 6 0) 0 0 0 hF _ _ hP hD hS ls (lv_sub hl [2, 1, 0] rfl)

def F_rankAt_1 (R : Nat → Tw → Int32 → Int32 → Int32 → Option (Int32 × Tw)) (n : Nat) (σ : Tw) (x1 : Int32) (x2 : Int32) (x3 : Int32) : Option (Int32 × Tw) := gd (inB 1 162) (if ((σ).2 0 (1 : Int32).toNatClampNeg) ≤ x2 then gd (inB 1 162) (gd (inB 1 162) (bnd (F_ranks n σ ((σ).2 0 (1 : Int32).toNatClampNeg) ((σ).2 0 (1 : Int32).toNatClampNeg)) (fun r5 u5 => some (r5, u5)))) else R 2 σ x1 x2 0)
def F_rankAt_2 (R : Nat → Tw → Int32 → Int32 → Int32 → Option (Int32 × Tw)) (n : Nat) (σ : Tw) (x1 : Int32) (x2 : Int32) (x3 : Int32) : Option (Int32 × Tw) := if 9 ≤ x3 then R 1 σ x1 (x2 + 1) x3 else gd (inB 1 162) (if x3 < ((σ).2 0 (1 : Int32).toNatClampNeg) then bnd (F_cellOf σ x2 x3) (fun r9 u9 => if x2 = x3 then bnd (F_mod u9 (r9 - x1)) (fun r13 u13 => gd (inB ((9 * x2) + x3) 72) (R 2 (tw_sa u13 24 (((9 * x2) + x3)).toNatClampNeg r13) x1 x2 (x3 + 1))) else bnd (F_mod u9 (r9 - 0)) (fun r11 u11 => gd (inB ((9 * x2) + x3) 72) (R 2 (tw_sa u11 24 (((9 * x2) + x3)).toNatClampNeg r11) x1 x2 (x3 + 1)))) else gd (inB ((9 * x2) + x3) 72) (R 2 (tw_sa σ 24 (((9 * x2) + x3)).toNatClampNeg 0) x1 x2 (x3 + 1)))
def F_rankAt_r : Nat → Nat → Tw → Int32 → Int32 → Int32 → Option (Int32 × Tw)
  | 0 => fun _ _ _ _ _ => none
  | n + 1 => fun k => match k with | 1 => F_rankAt_1 (F_rankAt_r n) n | _ => F_rankAt_2 (F_rankAt_r n) n
def F_rankAt_0 (R : Nat → Tw → Int32 → Int32 → Int32 → Option (Int32 × Tw)) (n : Nat) (σ : Tw) (p1 : Int32) : Option (Int32 × Tw) := R 1 σ p1 0 0
def F_rankAt (n : Nat) (σ : Tw) (p1 : Int32) : Option (Int32 × Tw) := F_rankAt_0 (F_rankAt_r n) n σ p1
set_option maxHeartbeats 4000000 in
set_option maxRecDepth 100000 in
theorem mt_rankAt (l : Launch) (dC : Nat → ClassId) (dI : Nat → Nat → Nat) (cI cZ : ClassId) (m0 : Nat) (ad : Nat → Nat) (sz : Nat) (σ : Tw) (n : Nat)  (p1 : Int32) (out : Int32 × Tw) (hF : F_rankAt n σ p1 = some out) : Met l yX5_rankAt (ws_ yX5_rankAt cX5_rankAt 4 (some .int)) ({ frames := 4, cells := 0, slots := 0, locals := 95 }) (va_Pc [.ref m0, .int p1] (tw_Pre dC dI cI cZ m0 ad sz σ)) (va_Qi (fun r u => (r, u) = out) (tw_B dC dI cI cZ m0 ad) (tw_A m0 ad sz)) 0 0 (tw_A m0 ad sz) := by
  refine Met.ofW (cc := cX5_rankAt) (maxL := 4) (ret := (some .int)) (by decide +kernel) rfl ?_
  intro p e s m args below meth c s₁ B hml hv
  obtain ⟨rfl, hsz, hP, hK, hD0⟩ := hv
  have hx := B.exec
  have hb := B.bytes
  have hr := B.returns
  have hts := atoms_spec (ws := (ws_ yX5_rankAt cX5_rankAt 4 (some .int))) B.pre
  have hts : ∀ w ∈ lw_all, w.before _ s = true := fun w h => hts w (List.mem_cons_of_mem _ h)
  have hown : s.vm.findClass RX5 = some m.cls := findClass_of_methodNamed B.named
  have hlocks := B.notSynchronized
  subst hsz
  have hD := tw_Ds (z := s.heap.size) hD0
  have hAA := fun z (h : s.heap.size ≤ z) => tw_Am (m0 := m0) (ad := ad) h
  generalize hAe : tw_A m0 ad s.heap.size = A at hD hAA ⊢
  have hS : va_S A s.heap s.heap [] := va_S.rf
  have hP : va_P (dC, dI) vwCl (tw_ws m0 ad cI cZ σ) s.heap := hP
  have hl := lv_entry ([.ref m0, .int p1]) (n := 4) (Nat.le_of_ble_eq_true rfl)
  rw [lg_entry_eq]
  generalize (lg_sl ([.ref m0, .int p1]) ++ List.replicate (4 - (lg_sl ([.ref m0, .int p1])).length) Slot.unset).toArray = ls at hl ⊢
  have hl : lv_has ls 4 [(0, .ref m0), (1, .int p1)] := hl
  have loop : ∀ n : Nat, (∀ (σ : Tw) (x1 x2 x3 : Int32), F_rankAt_r n 1 σ x1 x2 x3 = some out → ∀ (H : Heap) (locs : List Loc), va_P (dC, dI) vwCl (tw_ws m0 ad cI cZ σ) H → va_D A (tw_ws m0 ad cI cZ σ) → va_S A s.heap H locs → ∀ ls : Array Slot, lv_has ls 4 [(0, .ref m0), (1, .int x1), (2, .int x2)] → W p l e (headSpec (ws_ yX5_rankAt cX5_rankAt 4 (some .int)) ({ frames := 4, cells := 0, slots := 0, locals := 95 })).room s m ([.ref m0, .int p1] : List Value).toArray below meth c H locs 0 0 (MQ below (va_Qi (fun r u => (r, u) = out) (tw_B dC dI cI cZ m0 ad) A) ([.ref m0, .int p1] : List Value).toArray s 0 0 A) (F0 m 2 ls [])) ∧ (∀ (σ : Tw) (x1 x2 x3 : Int32), F_rankAt_r n 2 σ x1 x2 x3 = some out → ∀ (H : Heap) (locs : List Loc), va_P (dC, dI) vwCl (tw_ws m0 ad cI cZ σ) H → va_D A (tw_ws m0 ad cI cZ σ) → va_S A s.heap H locs → ∀ ls : Array Slot, lv_has ls 4 [(0, .ref m0), (1, .int x1), (2, .int x2), (3, .int x3)] → W p l e (headSpec (ws_ yX5_rankAt cX5_rankAt 4 (some .int)) ({ frames := 4, cells := 0, slots := 0, locals := 95 })).room s m ([.ref m0, .int p1] : List Value).toArray below meth c H locs 0 0 (MQ below (va_Qi (fun r u => (r, u) = out) (tw_B dC dI cI cZ m0 ad) A) ([.ref m0, .int p1] : List Value).toArray s 0 0 A) (F0 m 14 ls [])) := by
    intro n
    induction n with
    | zero => exact ⟨(fun _ _ _ _ h => nomatch h), (fun _ _ _ _ h => nomatch h)⟩
    | succ n ih =>
      obtain ⟨lp1, lp2⟩ := ih
      refine ⟨?_, ?_⟩
      · intro σ x1 x2 x3 hF H locs hP hD hS ls hl
        replace hF : F_rankAt_1 (F_rankAt_r n) n σ x1 x2 x3 = some out := hF
        unfold F_rankAt_1 at hF
        refine lv_iload_n hx hb dX5_rankAt_2 rfl (lv_at hl 2 rfl) ?_
        refine lv_aload_n hx hb dX5_rankAt_3 rfl (lv_at hl 0 rfl) ?_
        refine va_get (D := (dC, dI)) (ci := 0) (v := .ref (ad 0)) (C := RX5) (T := TX5) (N := 28) hx hb hts in_X5 hown hK hP 0 tw_g rfl 0 (by decide) (hts _ q1986) (fun _ h9 => h9) rfl dX5_rankAt_4 ?_
        refine lv_iconst (v := 1) hx hb dX5_rankAt_7 (by decide) ?_
        obtain ⟨g1, hF⟩ := gd_s hF
        refine va_iald hx hb hK hP 1 0 tw_e0 rfl (inB_in g1) dX5_rankAt_8 ?_
        refine lv_icmp_ge (tgt := 78) hx hb dX5_rankAt_9 (by decide) (fun c2 => ?_) (fun c2 => ?_)
        · replace hF := it_t c2 hF
          refine lv_aload_n hx hb dX5_rankAt_78 rfl (lv_at hl 0 rfl) ?_
          refine lv_aload_n hx hb dX5_rankAt_79 rfl (lv_at hl 0 rfl) ?_
          refine va_get (D := (dC, dI)) (ci := 0) (v := .ref (ad 0)) (C := RX5) (T := TX5) (N := 28) hx hb hts in_X5 hown hK hP 0 tw_g rfl 0 (by decide) (hts _ q1986) (fun _ h9 => h9) rfl dX5_rankAt_80 ?_
          refine lv_iconst (v := 1) hx hb dX5_rankAt_83 (by decide) ?_
          obtain ⟨g3, hF⟩ := gd_s hF
          refine va_iald hx hb hK hP 1 0 tw_e0 rfl (inB_in g3) dX5_rankAt_84 ?_
          refine lv_aload_n hx hb dX5_rankAt_85 rfl (lv_at hl 0 rfl) ?_
          refine va_get (D := (dC, dI)) (ci := 0) (v := .ref (ad 0)) (C := RX5) (T := TX5) (N := 28) hx hb hts in_X5 hown hK hP 0 tw_g rfl 0 (by decide) (hts _ q1986) (fun _ h9 => h9) rfl dX5_rankAt_86 ?_
          refine lv_iconst (v := 1) hx hb dX5_rankAt_89 (by decide) ?_
          obtain ⟨g4, hF⟩ := gd_s hF
          refine va_iald hx hb hK hP 1 0 tw_e0 rfl (inB_in g4) dX5_rankAt_90 ?_
          obtain ⟨r5, u5, e5, hF⟩ := bnd_s hF
          refine tw_calli (va_runV (As := [.int ((σ).2 0 (1 : Int32).toNatClampNeg), .int ((σ).2 0 (1 : Int32).toNatClampNeg)]) (rest := []) ⟨hx, hb, hml, hown, hts⟩ (mt_ranks l dC dI cI cZ m0 ad H.size σ n  ((σ).2 0 (1 : Int32).toNatClampNeg) ((σ).2 0 (1 : Int32).toNatClampNeg) _ e5) (cwV 2 hts (lw_V q2384 q2386 qs90 q125 q2387) rfl rfl rfl (by decide +kernel) ⟨Nat.le_of_ble_eq_true rfl, Nat.le_of_ble_eq_true rfl⟩) (tw_preV hK hP hD _) rfl rfl hl.1 rfl (lv_room (Nat.le_of_ble_eq_true rfl)) dX5_rankAt_91 ⟨Nat.le_of_ble_eq_true rfl, Nat.le_of_ble_eq_true rfl⟩) hS hD hAA (fun rr uu H locs hw hP hD hS => ?_)
          obtain rfl : r5 = rr := (congrArg Prod.fst hw).symm
          obtain rfl : u5 = uu := (congrArg Prod.snd hw).symm
          exact W.iret (v := r5) hx hb hr (fun t ht hW => ⟨⟨r5, u5, rfl, Option.some.inj hF, by rw [ht]; exact hP, va_K.moved hW.alike hK⟩, hS.F ht⟩) hS.2.2 dX5_rankAt_94
        · replace hF := it_f c2 hF
          refine lv_iconst (v := 0) hx hb dX5_rankAt_12 (by decide) ?_
          refine lv_istore_n (lv' := [(3, .int 0), (0, .ref m0), (1, .int x1), (2, .int x2)]) hx hb dX5_rankAt_13 rfl hl (by decide) rfl (fun ls hl => ?_)
          exact lp2 σ x1 x2 0 hF _ _ hP hD hS ls (lv_sub hl [1, 2, 3, 0] rfl)
      · intro σ x1 x2 x3 hF H locs hP hD hS ls hl
        replace hF : F_rankAt_2 (F_rankAt_r n) n σ x1 x2 x3 = some out := hF
        unfold F_rankAt_2 at hF
        refine lv_iload_n hx hb dX5_rankAt_14 rfl (lv_at hl 3 rfl) ?_
        refine lv_bipush (v := 9) hx hb dX5_rankAt_15 (by decide) ?_
        refine lv_icmp_ge (tgt := 72) hx hb dX5_rankAt_17 (by decide) (fun c6 => ?_) (fun c6 => ?_)
        · replace hF := it_t c6 hF
          refine lv_iinc (v := (x2 + 1)) (lv' := [(2, .int (x2 + 1)), (0, .ref m0), (1, .int x1), (3, .int x3)]) hx hb dX5_rankAt_72 hl (k := 2) rfl rfl (by decide) rfl (fun ls hl => ?_)
          refine lv_goto (tgt := 2) hx hb dX5_rankAt_75 (by decide) ?_
          exact lp1 σ x1 (x2 + 1) x3 hF _ _ hP hD hS ls (lv_sub hl [1, 2, 0] rfl)
        · replace hF := it_f c6 hF
          refine lv_aload_n hx hb dX5_rankAt_20 rfl (lv_at hl 0 rfl) ?_
          refine va_get (D := (dC, dI)) (ci := 0) (v := .ref (ad 24)) (C := RX5) (T := TX5) (N := 28) hx hb hts in_X5 hown hK hP 0 tw_g rfl 24 (by decide) (hts _ q2010) (fun _ h9 => h9) rfl dX5_rankAt_21 ?_
          refine lv_bipush (v := 9) hx hb dX5_rankAt_24 (by decide) ?_
          refine lv_iload_n hx hb dX5_rankAt_26 rfl (lv_at hl 2 rfl) ?_
          refine lv_imul hx hb dX5_rankAt_27 ?_
          refine lv_iload_n hx hb dX5_rankAt_28 rfl (lv_at hl 3 rfl) ?_
          refine lv_iadd hx hb dX5_rankAt_29 ?_
          refine lv_iload_n hx hb dX5_rankAt_30 rfl (lv_at hl 3 rfl) ?_
          refine lv_aload_n hx hb dX5_rankAt_31 rfl (lv_at hl 0 rfl) ?_
          refine va_get (D := (dC, dI)) (ci := 0) (v := .ref (ad 0)) (C := RX5) (T := TX5) (N := 28) hx hb hts in_X5 hown hK hP 0 tw_g rfl 0 (by decide) (hts _ q1986) (fun _ h9 => h9) rfl dX5_rankAt_32 ?_
          refine lv_iconst (v := 1) hx hb dX5_rankAt_35 (by decide) ?_
          obtain ⟨g7, hF⟩ := gd_s hF
          refine va_iald hx hb hK hP 1 0 tw_e0 rfl (inB_in g7) dX5_rankAt_36 ?_
          refine lv_icmp_lt (tgt := 44) hx hb dX5_rankAt_37 (by decide) (fun c8 => ?_) (fun c8 => ?_)
          · replace hF := it_t c8 hF
            refine lv_aload_n hx hb dX5_rankAt_44 rfl (lv_at hl 0 rfl) ?_
            refine lv_aload_n hx hb dX5_rankAt_45 rfl (lv_at hl 0 rfl) ?_
            refine lv_iload_n hx hb dX5_rankAt_46 rfl (lv_at hl 2 rfl) ?_
            refine lv_iload_n hx hb dX5_rankAt_47 rfl (lv_at hl 3 rfl) ?_
            obtain ⟨r9, u9, e9, hF⟩ := bnd_s hF
            refine tw_calli (va_runV (As := [.int x2, .int x3]) (rest := [.ref m0, .int ((9 * x2) + x3), .ref (ad 24)]) ⟨hx, hb, hml, hown, hts⟩ (mt_cellOf l dC dI cI cZ m0 ad H.size σ  x2 x3 _ e9) (cwV 2 hts (lw_V q2181 q2183 qs59 q125 q2184) rfl rfl rfl (by decide +kernel) ⟨Nat.le_of_ble_eq_true rfl, Nat.le_of_ble_eq_true rfl⟩) (tw_preV hK hP hD _) rfl rfl hl.1 rfl (lv_room (Nat.le_of_ble_eq_true rfl)) dX5_rankAt_48 ⟨Nat.le_of_ble_eq_true rfl, Nat.le_of_ble_eq_true rfl⟩) hS hD hAA (fun rr uu H locs hw hP hD hS => ?_)
            obtain rfl : r9 = rr := (congrArg Prod.fst hw).symm
            obtain rfl : u9 = uu := (congrArg Prod.snd hw).symm
            refine lv_iload_n hx hb dX5_rankAt_51 rfl (lv_at hl 2 rfl) ?_
            refine lv_iload_n hx hb dX5_rankAt_52 rfl (lv_at hl 3 rfl) ?_
            refine lv_icmp_ne (tgt := 60) hx hb dX5_rankAt_53 (by decide) (fun c10 => ?_) (fun c10 => ?_)
            · replace hF := it_f c10 hF
              refine lv_iconst (v := 0) hx hb dX5_rankAt_60 (by decide) ?_
              refine lv_isub hx hb dX5_rankAt_61 ?_
              obtain ⟨r11, u11, e11, hF⟩ := bnd_s hF
              refine tw_calli (va_runV (As := [.int (r9 - 0)]) (rest := [.int ((9 * x2) + x3), .ref (ad 24)]) ⟨hx, hb, hml, hown, hts⟩ (mt_mod l dC dI cI cZ m0 ad H.size u9  (r9 - 0) _ e11) (cwV 1 hts (lw_V q2253 q2255 qs70 q125 q2256) rfl rfl rfl (by decide +kernel) ⟨Nat.le_of_ble_eq_true rfl, Nat.le_of_ble_eq_true rfl⟩) (tw_preV hK hP hD _) rfl rfl hl.1 rfl (lv_room (Nat.le_of_ble_eq_true rfl)) dX5_rankAt_62 ⟨Nat.le_of_ble_eq_true rfl, Nat.le_of_ble_eq_true rfl⟩) hS hD hAA (fun rr uu H locs hw hP hD hS => ?_)
              obtain rfl : r11 = rr := (congrArg Prod.fst hw).symm
              obtain rfl : u11 = uu := (congrArg Prod.snd hw).symm
              obtain ⟨g12, hF⟩ := gd_s hF
              refine va_iast hx hb hK hP hD hS 13 0 tw_e24 rfl (x := r11) (inB_in g12) dX5_rankAt_65 (fun H locs hP hD hS => ?_)
              rw [tw_s24] at hP hD
              refine lv_iinc (v := (x3 + 1)) (lv' := [(3, .int (x3 + 1)), (0, .ref m0), (1, .int x1), (2, .int x2)]) hx hb dX5_rankAt_66 hl (k := 3) rfl rfl (by decide) rfl (fun ls hl => ?_)
              refine lv_goto (tgt := 14) hx hb dX5_rankAt_69 (by decide) ?_
              exact lp2 (tw_sa u11 24 (((9 * x2) + x3)).toNatClampNeg r11) x1 x2 (x3 + 1) hF _ _ hP hD hS ls (lv_sub hl [1, 2, 3, 0] rfl)
            · replace hF := it_t c10 hF
              refine lv_iload_n hx hb dX5_rankAt_56 rfl (lv_at hl 1 rfl) ?_
              refine lv_goto (tgt := 61) hx hb dX5_rankAt_57 (by decide) ?_
              refine lv_isub hx hb dX5_rankAt_61 ?_
              obtain ⟨r13, u13, e13, hF⟩ := bnd_s hF
              refine tw_calli (va_runV (As := [.int (r9 - x1)]) (rest := [.int ((9 * x2) + x3), .ref (ad 24)]) ⟨hx, hb, hml, hown, hts⟩ (mt_mod l dC dI cI cZ m0 ad H.size u9  (r9 - x1) _ e13) (cwV 1 hts (lw_V q2253 q2255 qs70 q125 q2256) rfl rfl rfl (by decide +kernel) ⟨Nat.le_of_ble_eq_true rfl, Nat.le_of_ble_eq_true rfl⟩) (tw_preV hK hP hD _) rfl rfl hl.1 rfl (lv_room (Nat.le_of_ble_eq_true rfl)) dX5_rankAt_62 ⟨Nat.le_of_ble_eq_true rfl, Nat.le_of_ble_eq_true rfl⟩) hS hD hAA (fun rr uu H locs hw hP hD hS => ?_)
              obtain rfl : r13 = rr := (congrArg Prod.fst hw).symm
              obtain rfl : u13 = uu := (congrArg Prod.snd hw).symm
              obtain ⟨g14, hF⟩ := gd_s hF
              refine va_iast hx hb hK hP hD hS 13 0 tw_e24 rfl (x := r13) (inB_in g14) dX5_rankAt_65 (fun H locs hP hD hS => ?_)
              rw [tw_s24] at hP hD
              refine lv_iinc (v := (x3 + 1)) (lv' := [(3, .int (x3 + 1)), (0, .ref m0), (1, .int x1), (2, .int x2)]) hx hb dX5_rankAt_66 hl (k := 3) rfl rfl (by decide) rfl (fun ls hl => ?_)
              refine lv_goto (tgt := 14) hx hb dX5_rankAt_69 (by decide) ?_
              exact lp2 (tw_sa u13 24 (((9 * x2) + x3)).toNatClampNeg r13) x1 x2 (x3 + 1) hF _ _ hP hD hS ls (lv_sub hl [1, 2, 3, 0] rfl)
          · replace hF := it_f c8 hF
            refine lv_iconst (v := 0) hx hb dX5_rankAt_40 (by decide) ?_
            refine lv_goto (tgt := 65) hx hb dX5_rankAt_41 (by decide) ?_
            obtain ⟨g15, hF⟩ := gd_s hF
            refine va_iast hx hb hK hP hD hS 13 0 tw_e24 rfl (x := 0) (inB_in g15) dX5_rankAt_65 (fun H locs hP hD hS => ?_)
            rw [tw_s24] at hP hD
            refine lv_iinc (v := (x3 + 1)) (lv' := [(3, .int (x3 + 1)), (0, .ref m0), (1, .int x1), (2, .int x2)]) hx hb dX5_rankAt_66 hl (k := 3) rfl rfl (by decide) rfl (fun ls hl => ?_)
            refine lv_goto (tgt := 14) hx hb dX5_rankAt_69 (by decide) ?_
            exact lp2 (tw_sa σ 24 (((9 * x2) + x3)).toNatClampNeg 0) x1 x2 (x3 + 1) hF _ _ hP hD hS ls (lv_sub hl [1, 2, 3, 0] rfl)
  obtain ⟨lp1, lp2⟩ := loop n
  unfold F_rankAt F_rankAt_0 at hF
  refine lv_iconst (v := 0) hx hb dX5_rankAt_0 (by decide) ?_
  refine lv_istore_n (lv' := [(2, .int 0), (0, .ref m0), (1, .int p1)]) hx hb dX5_rankAt_1 rfl hl (by decide) rfl (fun ls hl => ?_)
  exact lp1 σ p1 0 0 hF _ _ hP hD hS ls (lv_sub hl [1, 2, 0] rfl)

def F_determinantAt (n : Nat) (σ : Tw) (p1 : Int32) : Option (Int32 × Tw) := bnd (F_isNumber σ p1) (fun r1 u1 => if r1 = 0 then if (((tw_sf u1 6 1)).1 6) ≤ 0 then bnd (F_rankAt n (tw_sf u1 6 1) p1) (fun r4 u4 => some ((((tw_sf u4 20 r4)).1 25), (tw_sf u4 20 r4))) else some (0, (tw_sf u1 6 1)) else if (((tw_sf u1 6 0)).1 6) ≤ 0 then bnd (F_rankAt n (tw_sf u1 6 0) p1) (fun r6 u6 => some ((((tw_sf u6 20 r6)).1 25), (tw_sf u6 20 r6))) else some (0, (tw_sf u1 6 0)))
set_option maxHeartbeats 4000000 in
set_option maxRecDepth 100000 in
theorem mt_determinantAt (l : Launch) (dC : Nat → ClassId) (dI : Nat → Nat → Nat) (cI cZ : ClassId) (m0 : Nat) (ad : Nat → Nat) (sz : Nat) (σ : Tw) (n : Nat)  (p1 : Int32) (out : Int32 × Tw) (hF : F_determinantAt n σ p1 = some out) : Met l yX5_determinantAt (ws_ yX5_determinantAt cX5_determinantAt 2 (some .int)) ({ frames := 5, cells := 0, slots := 0, locals := 118 }) (va_Pc [.ref m0, .int p1] (tw_Pre dC dI cI cZ m0 ad sz σ)) (va_Qi (fun r u => (r, u) = out) (tw_B dC dI cI cZ m0 ad) (tw_A m0 ad sz)) 0 0 (tw_A m0 ad sz) := by
  refine Met.ofW (cc := cX5_determinantAt) (maxL := 2) (ret := (some .int)) (by decide +kernel) rfl ?_
  intro p e s m args below meth c s₁ B hml hv
  obtain ⟨rfl, hsz, hP, hK, hD0⟩ := hv
  have hx := B.exec
  have hb := B.bytes
  have hr := B.returns
  have hts := atoms_spec (ws := (ws_ yX5_determinantAt cX5_determinantAt 2 (some .int))) B.pre
  have hts : ∀ w ∈ lw_all, w.before _ s = true := fun w h => hts w (List.mem_cons_of_mem _ h)
  have hown : s.vm.findClass RX5 = some m.cls := findClass_of_methodNamed B.named
  have hlocks := B.notSynchronized
  subst hsz
  have hD := tw_Ds (z := s.heap.size) hD0
  have hAA := fun z (h : s.heap.size ≤ z) => tw_Am (m0 := m0) (ad := ad) h
  generalize hAe : tw_A m0 ad s.heap.size = A at hD hAA ⊢
  have hS : va_S A s.heap s.heap [] := va_S.rf
  have hP : va_P (dC, dI) vwCl (tw_ws m0 ad cI cZ σ) s.heap := hP
  have hl := lv_entry ([.ref m0, .int p1]) (n := 2) (Nat.le_of_ble_eq_true rfl)
  rw [lg_entry_eq]
  generalize (lg_sl ([.ref m0, .int p1]) ++ List.replicate (2 - (lg_sl ([.ref m0, .int p1])).length) Slot.unset).toArray = ls at hl ⊢
  have hl : lv_has ls 2 [(0, .ref m0), (1, .int p1)] := hl
  unfold F_determinantAt at hF
  refine lv_aload_n hx hb dX5_determinantAt_0 rfl (lv_at hl 0 rfl) ?_
  refine lv_aload_n hx hb dX5_determinantAt_1 rfl (lv_at hl 0 rfl) ?_
  refine lv_iload_n hx hb dX5_determinantAt_2 rfl (lv_at hl 1 rfl) ?_
  obtain ⟨r1, u1, e1, hF⟩ := bnd_s hF
  refine tw_calli (va_runV (As := [.int p1]) (rest := [.ref m0]) ⟨hx, hb, hml, hown, hts⟩ (mt_isNumber l dC dI cI cZ m0 ad s.heap.size σ  p1 _ e1) (cwV 1 hts (lw_V q2193 q2195 qs60 q125 q2196) rfl rfl rfl (by decide +kernel) ⟨Nat.le_of_ble_eq_true rfl, Nat.le_of_ble_eq_true rfl⟩) (tw_preV hK hP hD _) rfl rfl hl.1 rfl (lv_room (Nat.le_of_ble_eq_true rfl)) dX5_determinantAt_3 ⟨Nat.le_of_ble_eq_true rfl, Nat.le_of_ble_eq_true rfl⟩) hS hD hAA (fun rr uu H locs hw hP hD hS => ?_)
  obtain rfl : r1 = rr := (congrArg Prod.fst hw).symm
  obtain rfl : u1 = uu := (congrArg Prod.snd hw).symm
  refine lv_if_eq (tgt := 13) hx hb dX5_determinantAt_6 (by decide) (fun c2 => ?_) (fun c2 => ?_)
  · replace hF := it_t c2 hF
    refine lv_iconst (v := 1) hx hb dX5_determinantAt_13 (by decide) ?_
    refine va_put (D := (dC, dI)) (ci := 0) (v := .int 1) (ty := .int) (C := RX5) (T := TX5) (N := 28) hx hb hts in_X5 tyX5 tyX5_ok nmX5 hown hK hP hD hS 0 tw_g rfl 6 (by decide) (hts _ q1992) (fun _ h9 => h9) rfl (tyX5_ok 6 (by decide)) rfl rfl (Nat.le_of_ble_eq_true rfl) dX5_determinantAt_14 (fun H locs hP hD hS => ?_)
    rw [tw_p6] at hP hD
    refine lv_aload_n hx hb dX5_determinantAt_17 rfl (lv_at hl 0 rfl) ?_
    refine va_get (D := (dC, dI)) (ci := 0) (v := .int (((tw_sf u1 6 1)).1 6)) (C := RX5) (T := TX5) (N := 28) hx hb hts in_X5 hown hK hP 0 tw_g rfl 6 (by decide) (hts _ q1992) (fun _ h9 => h9) rfl dX5_determinantAt_18 ?_
    refine lv_if_le (tgt := 26) hx hb dX5_determinantAt_21 (by decide) (fun c3 => ?_) (fun c3 => ?_)
    · replace hF := it_t c3 hF
      refine lv_aload_n hx hb dX5_determinantAt_26 rfl (lv_at hl 0 rfl) ?_
      refine lv_aload_n hx hb dX5_determinantAt_27 rfl (lv_at hl 0 rfl) ?_
      refine lv_iload_n hx hb dX5_determinantAt_28 rfl (lv_at hl 1 rfl) ?_
      obtain ⟨r4, u4, e4, hF⟩ := bnd_s hF
      refine tw_calli (va_runV (As := [.int p1]) (rest := [.ref m0]) ⟨hx, hb, hml, hown, hts⟩ (mt_rankAt l dC dI cI cZ m0 ad H.size (tw_sf u1 6 1) n  p1 _ e4) (cwV 1 hts (lw_V q2424 q2426 qs95 q125 q2427) rfl rfl rfl (by decide +kernel) ⟨Nat.le_of_ble_eq_true rfl, Nat.le_of_ble_eq_true rfl⟩) (tw_preV hK hP hD _) rfl rfl hl.1 rfl (lv_room (Nat.le_of_ble_eq_true rfl)) dX5_determinantAt_29 ⟨Nat.le_of_ble_eq_true rfl, Nat.le_of_ble_eq_true rfl⟩) hS hD hAA (fun rr uu H locs hw hP hD hS => ?_)
      obtain rfl : r4 = rr := (congrArg Prod.fst hw).symm
      obtain rfl : u4 = uu := (congrArg Prod.snd hw).symm
      refine va_put (D := (dC, dI)) (ci := 0) (v := .int r4) (ty := .int) (C := RX5) (T := TX5) (N := 28) hx hb hts in_X5 tyX5 tyX5_ok nmX5 hown hK hP hD hS 0 tw_g rfl 20 (by decide) (hts _ q2006) (fun _ h9 => h9) rfl (tyX5_ok 20 (by decide)) rfl rfl (Nat.le_of_ble_eq_true rfl) dX5_determinantAt_32 (fun H locs hP hD hS => ?_)
      rw [tw_p20] at hP hD
      refine lv_aload_n hx hb dX5_determinantAt_35 rfl (lv_at hl 0 rfl) ?_
      refine va_get (D := (dC, dI)) (ci := 0) (v := .int (((tw_sf u4 20 r4)).1 25)) (C := RX5) (T := TX5) (N := 28) hx hb hts in_X5 hown hK hP 0 tw_g rfl 25 (by decide) (hts _ q2011) (fun _ h9 => h9) rfl dX5_determinantAt_36 ?_
      exact W.iret (v := (((tw_sf u4 20 r4)).1 25)) hx hb hr (fun t ht hW => ⟨⟨(((tw_sf u4 20 r4)).1 25), (tw_sf u4 20 r4), rfl, Option.some.inj hF, by rw [ht]; exact hP, va_K.moved hW.alike hK⟩, hS.F ht⟩) hS.2.2 dX5_determinantAt_39
    · replace hF := it_f c3 hF
      refine lv_iconst (v := 0) hx hb dX5_determinantAt_24 (by decide) ?_
      exact W.iret (v := 0) hx hb hr (fun t ht hW => ⟨⟨0, (tw_sf u1 6 1), rfl, Option.some.inj hF, by rw [ht]; exact hP, va_K.moved hW.alike hK⟩, hS.F ht⟩) hS.2.2 dX5_determinantAt_25
  · replace hF := it_f c2 hF
    refine lv_iconst (v := 0) hx hb dX5_determinantAt_9 (by decide) ?_
    refine lv_goto (tgt := 14) hx hb dX5_determinantAt_10 (by decide) ?_
    refine va_put (D := (dC, dI)) (ci := 0) (v := .int 0) (ty := .int) (C := RX5) (T := TX5) (N := 28) hx hb hts in_X5 tyX5 tyX5_ok nmX5 hown hK hP hD hS 0 tw_g rfl 6 (by decide) (hts _ q1992) (fun _ h9 => h9) rfl (tyX5_ok 6 (by decide)) rfl rfl (Nat.le_of_ble_eq_true rfl) dX5_determinantAt_14 (fun H locs hP hD hS => ?_)
    rw [tw_p6] at hP hD
    refine lv_aload_n hx hb dX5_determinantAt_17 rfl (lv_at hl 0 rfl) ?_
    refine va_get (D := (dC, dI)) (ci := 0) (v := .int (((tw_sf u1 6 0)).1 6)) (C := RX5) (T := TX5) (N := 28) hx hb hts in_X5 hown hK hP 0 tw_g rfl 6 (by decide) (hts _ q1992) (fun _ h9 => h9) rfl dX5_determinantAt_18 ?_
    refine lv_if_le (tgt := 26) hx hb dX5_determinantAt_21 (by decide) (fun c5 => ?_) (fun c5 => ?_)
    · replace hF := it_t c5 hF
      refine lv_aload_n hx hb dX5_determinantAt_26 rfl (lv_at hl 0 rfl) ?_
      refine lv_aload_n hx hb dX5_determinantAt_27 rfl (lv_at hl 0 rfl) ?_
      refine lv_iload_n hx hb dX5_determinantAt_28 rfl (lv_at hl 1 rfl) ?_
      obtain ⟨r6, u6, e6, hF⟩ := bnd_s hF
      refine tw_calli (va_runV (As := [.int p1]) (rest := [.ref m0]) ⟨hx, hb, hml, hown, hts⟩ (mt_rankAt l dC dI cI cZ m0 ad H.size (tw_sf u1 6 0) n  p1 _ e6) (cwV 1 hts (lw_V q2424 q2426 qs95 q125 q2427) rfl rfl rfl (by decide +kernel) ⟨Nat.le_of_ble_eq_true rfl, Nat.le_of_ble_eq_true rfl⟩) (tw_preV hK hP hD _) rfl rfl hl.1 rfl (lv_room (Nat.le_of_ble_eq_true rfl)) dX5_determinantAt_29 ⟨Nat.le_of_ble_eq_true rfl, Nat.le_of_ble_eq_true rfl⟩) hS hD hAA (fun rr uu H locs hw hP hD hS => ?_)
      obtain rfl : r6 = rr := (congrArg Prod.fst hw).symm
      obtain rfl : u6 = uu := (congrArg Prod.snd hw).symm
      refine va_put (D := (dC, dI)) (ci := 0) (v := .int r6) (ty := .int) (C := RX5) (T := TX5) (N := 28) hx hb hts in_X5 tyX5 tyX5_ok nmX5 hown hK hP hD hS 0 tw_g rfl 20 (by decide) (hts _ q2006) (fun _ h9 => h9) rfl (tyX5_ok 20 (by decide)) rfl rfl (Nat.le_of_ble_eq_true rfl) dX5_determinantAt_32 (fun H locs hP hD hS => ?_)
      rw [tw_p20] at hP hD
      refine lv_aload_n hx hb dX5_determinantAt_35 rfl (lv_at hl 0 rfl) ?_
      refine va_get (D := (dC, dI)) (ci := 0) (v := .int (((tw_sf u6 20 r6)).1 25)) (C := RX5) (T := TX5) (N := 28) hx hb hts in_X5 hown hK hP 0 tw_g rfl 25 (by decide) (hts _ q2011) (fun _ h9 => h9) rfl dX5_determinantAt_36 ?_
      exact W.iret (v := (((tw_sf u6 20 r6)).1 25)) hx hb hr (fun t ht hW => ⟨⟨(((tw_sf u6 20 r6)).1 25), (tw_sf u6 20 r6), rfl, Option.some.inj hF, by rw [ht]; exact hP, va_K.moved hW.alike hK⟩, hS.F ht⟩) hS.2.2 dX5_determinantAt_39
    · replace hF := it_f c5 hF
      refine lv_iconst (v := 0) hx hb dX5_determinantAt_24 (by decide) ?_
      exact W.iret (v := 0) hx hb hr (fun t ht hW => ⟨⟨0, (tw_sf u1 6 0), rfl, Option.some.inj hF, by rw [ht]; exact hP, va_K.moved hW.alike hK⟩, hS.F ht⟩) hS.2.2 dX5_determinantAt_25

def F_dimension (n : Nat) (σ : Tw) (p1 : Int32) : Option (Int32 × Tw) := bnd (F_isNumber σ p1) (fun r1 u1 => if r1 = 0 then if (((tw_sf u1 6 1)).1 6) ≤ 0 then gd (inB 1 162) (bnd (F_rankAt n (tw_sf u1 6 1) p1) (fun r5 u5 => some (((((tw_sf u1 6 1)).2 0 (1 : Int32).toNatClampNeg) - r5), u5))) else some (0, (tw_sf u1 6 1)) else if (((tw_sf u1 6 0)).1 6) ≤ 0 then gd (inB 1 162) (bnd (F_rankAt n (tw_sf u1 6 0) p1) (fun r8 u8 => some (((((tw_sf u1 6 0)).2 0 (1 : Int32).toNatClampNeg) - r8), u8))) else some (0, (tw_sf u1 6 0)))
set_option maxHeartbeats 4000000 in
set_option maxRecDepth 100000 in
theorem mt_dimension (l : Launch) (dC : Nat → ClassId) (dI : Nat → Nat → Nat) (cI cZ : ClassId) (m0 : Nat) (ad : Nat → Nat) (sz : Nat) (σ : Tw) (n : Nat)  (p1 : Int32) (out : Int32 × Tw) (hF : F_dimension n σ p1 = some out) : Met l yX5_dimension (ws_ yX5_dimension cX5_dimension 2 (some .int)) ({ frames := 5, cells := 0, slots := 0, locals := 118 }) (va_Pc [.ref m0, .int p1] (tw_Pre dC dI cI cZ m0 ad sz σ)) (va_Qi (fun r u => (r, u) = out) (tw_B dC dI cI cZ m0 ad) (tw_A m0 ad sz)) 0 0 (tw_A m0 ad sz) := by
  refine Met.ofW (cc := cX5_dimension) (maxL := 2) (ret := (some .int)) (by decide +kernel) rfl ?_
  intro p e s m args below meth c s₁ B hml hv
  obtain ⟨rfl, hsz, hP, hK, hD0⟩ := hv
  have hx := B.exec
  have hb := B.bytes
  have hr := B.returns
  have hts := atoms_spec (ws := (ws_ yX5_dimension cX5_dimension 2 (some .int))) B.pre
  have hts : ∀ w ∈ lw_all, w.before _ s = true := fun w h => hts w (List.mem_cons_of_mem _ h)
  have hown : s.vm.findClass RX5 = some m.cls := findClass_of_methodNamed B.named
  have hlocks := B.notSynchronized
  subst hsz
  have hD := tw_Ds (z := s.heap.size) hD0
  have hAA := fun z (h : s.heap.size ≤ z) => tw_Am (m0 := m0) (ad := ad) h
  generalize hAe : tw_A m0 ad s.heap.size = A at hD hAA ⊢
  have hS : va_S A s.heap s.heap [] := va_S.rf
  have hP : va_P (dC, dI) vwCl (tw_ws m0 ad cI cZ σ) s.heap := hP
  have hl := lv_entry ([.ref m0, .int p1]) (n := 2) (Nat.le_of_ble_eq_true rfl)
  rw [lg_entry_eq]
  generalize (lg_sl ([.ref m0, .int p1]) ++ List.replicate (2 - (lg_sl ([.ref m0, .int p1])).length) Slot.unset).toArray = ls at hl ⊢
  have hl : lv_has ls 2 [(0, .ref m0), (1, .int p1)] := hl
  unfold F_dimension at hF
  refine lv_aload_n hx hb dX5_dimension_0 rfl (lv_at hl 0 rfl) ?_
  refine lv_aload_n hx hb dX5_dimension_1 rfl (lv_at hl 0 rfl) ?_
  refine lv_iload_n hx hb dX5_dimension_2 rfl (lv_at hl 1 rfl) ?_
  obtain ⟨r1, u1, e1, hF⟩ := bnd_s hF
  refine tw_calli (va_runV (As := [.int p1]) (rest := [.ref m0]) ⟨hx, hb, hml, hown, hts⟩ (mt_isNumber l dC dI cI cZ m0 ad s.heap.size σ  p1 _ e1) (cwV 1 hts (lw_V q2193 q2195 qs60 q125 q2196) rfl rfl rfl (by decide +kernel) ⟨Nat.le_of_ble_eq_true rfl, Nat.le_of_ble_eq_true rfl⟩) (tw_preV hK hP hD _) rfl rfl hl.1 rfl (lv_room (Nat.le_of_ble_eq_true rfl)) dX5_dimension_3 ⟨Nat.le_of_ble_eq_true rfl, Nat.le_of_ble_eq_true rfl⟩) hS hD hAA (fun rr uu H locs hw hP hD hS => ?_)
  obtain rfl : r1 = rr := (congrArg Prod.fst hw).symm
  obtain rfl : u1 = uu := (congrArg Prod.snd hw).symm
  refine lv_if_eq (tgt := 13) hx hb dX5_dimension_6 (by decide) (fun c2 => ?_) (fun c2 => ?_)
  · replace hF := it_t c2 hF
    refine lv_iconst (v := 1) hx hb dX5_dimension_13 (by decide) ?_
    refine va_put (D := (dC, dI)) (ci := 0) (v := .int 1) (ty := .int) (C := RX5) (T := TX5) (N := 28) hx hb hts in_X5 tyX5 tyX5_ok nmX5 hown hK hP hD hS 0 tw_g rfl 6 (by decide) (hts _ q1992) (fun _ h9 => h9) rfl (tyX5_ok 6 (by decide)) rfl rfl (Nat.le_of_ble_eq_true rfl) dX5_dimension_14 (fun H locs hP hD hS => ?_)
    rw [tw_p6] at hP hD
    refine lv_aload_n hx hb dX5_dimension_17 rfl (lv_at hl 0 rfl) ?_
    refine va_get (D := (dC, dI)) (ci := 0) (v := .int (((tw_sf u1 6 1)).1 6)) (C := RX5) (T := TX5) (N := 28) hx hb hts in_X5 hown hK hP 0 tw_g rfl 6 (by decide) (hts _ q1992) (fun _ h9 => h9) rfl dX5_dimension_18 ?_
    refine lv_if_le (tgt := 28) hx hb dX5_dimension_21 (by decide) (fun c3 => ?_) (fun c3 => ?_)
    · replace hF := it_t c3 hF
      refine lv_aload_n hx hb dX5_dimension_28 rfl (lv_at hl 0 rfl) ?_
      refine va_get (D := (dC, dI)) (ci := 0) (v := .ref (ad 0)) (C := RX5) (T := TX5) (N := 28) hx hb hts in_X5 hown hK hP 0 tw_g rfl 0 (by decide) (hts _ q1986) (fun _ h9 => h9) rfl dX5_dimension_29 ?_
      refine lv_iconst (v := 1) hx hb dX5_dimension_32 (by decide) ?_
      obtain ⟨g4, hF⟩ := gd_s hF
      refine va_iald hx hb hK hP 1 0 tw_e0 rfl (inB_in g4) dX5_dimension_33 ?_
      refine lv_aload_n hx hb dX5_dimension_34 rfl (lv_at hl 0 rfl) ?_
      refine lv_iload_n hx hb dX5_dimension_35 rfl (lv_at hl 1 rfl) ?_
      obtain ⟨r5, u5, e5, hF⟩ := bnd_s hF
      refine tw_calli (va_runV (As := [.int p1]) (rest := [.int (((tw_sf u1 6 1)).2 0 (1 : Int32).toNatClampNeg)]) ⟨hx, hb, hml, hown, hts⟩ (mt_rankAt l dC dI cI cZ m0 ad H.size (tw_sf u1 6 1) n  p1 _ e5) (cwV 1 hts (lw_V q2424 q2426 qs95 q125 q2427) rfl rfl rfl (by decide +kernel) ⟨Nat.le_of_ble_eq_true rfl, Nat.le_of_ble_eq_true rfl⟩) (tw_preV hK hP hD _) rfl rfl hl.1 rfl (lv_room (Nat.le_of_ble_eq_true rfl)) dX5_dimension_36 ⟨Nat.le_of_ble_eq_true rfl, Nat.le_of_ble_eq_true rfl⟩) hS hD hAA (fun rr uu H locs hw hP hD hS => ?_)
      obtain rfl : r5 = rr := (congrArg Prod.fst hw).symm
      obtain rfl : u5 = uu := (congrArg Prod.snd hw).symm
      refine lv_isub hx hb dX5_dimension_39 ?_
      exact W.iret (v := ((((tw_sf u1 6 1)).2 0 (1 : Int32).toNatClampNeg) - r5)) hx hb hr (fun t ht hW => ⟨⟨((((tw_sf u1 6 1)).2 0 (1 : Int32).toNatClampNeg) - r5), u5, rfl, Option.some.inj hF, by rw [ht]; exact hP, va_K.moved hW.alike hK⟩, hS.F ht⟩) hS.2.2 dX5_dimension_40
    · replace hF := it_f c3 hF
      refine lv_iconst (v := 0) hx hb dX5_dimension_24 (by decide) ?_
      refine lv_goto (tgt := 40) hx hb dX5_dimension_25 (by decide) ?_
      exact W.iret (v := 0) hx hb hr (fun t ht hW => ⟨⟨0, (tw_sf u1 6 1), rfl, Option.some.inj hF, by rw [ht]; exact hP, va_K.moved hW.alike hK⟩, hS.F ht⟩) hS.2.2 dX5_dimension_40
  · replace hF := it_f c2 hF
    refine lv_iconst (v := 0) hx hb dX5_dimension_9 (by decide) ?_
    refine lv_goto (tgt := 14) hx hb dX5_dimension_10 (by decide) ?_
    refine va_put (D := (dC, dI)) (ci := 0) (v := .int 0) (ty := .int) (C := RX5) (T := TX5) (N := 28) hx hb hts in_X5 tyX5 tyX5_ok nmX5 hown hK hP hD hS 0 tw_g rfl 6 (by decide) (hts _ q1992) (fun _ h9 => h9) rfl (tyX5_ok 6 (by decide)) rfl rfl (Nat.le_of_ble_eq_true rfl) dX5_dimension_14 (fun H locs hP hD hS => ?_)
    rw [tw_p6] at hP hD
    refine lv_aload_n hx hb dX5_dimension_17 rfl (lv_at hl 0 rfl) ?_
    refine va_get (D := (dC, dI)) (ci := 0) (v := .int (((tw_sf u1 6 0)).1 6)) (C := RX5) (T := TX5) (N := 28) hx hb hts in_X5 hown hK hP 0 tw_g rfl 6 (by decide) (hts _ q1992) (fun _ h9 => h9) rfl dX5_dimension_18 ?_
    refine lv_if_le (tgt := 28) hx hb dX5_dimension_21 (by decide) (fun c6 => ?_) (fun c6 => ?_)
    · replace hF := it_t c6 hF
      refine lv_aload_n hx hb dX5_dimension_28 rfl (lv_at hl 0 rfl) ?_
      refine va_get (D := (dC, dI)) (ci := 0) (v := .ref (ad 0)) (C := RX5) (T := TX5) (N := 28) hx hb hts in_X5 hown hK hP 0 tw_g rfl 0 (by decide) (hts _ q1986) (fun _ h9 => h9) rfl dX5_dimension_29 ?_
      refine lv_iconst (v := 1) hx hb dX5_dimension_32 (by decide) ?_
      obtain ⟨g7, hF⟩ := gd_s hF
      refine va_iald hx hb hK hP 1 0 tw_e0 rfl (inB_in g7) dX5_dimension_33 ?_
      refine lv_aload_n hx hb dX5_dimension_34 rfl (lv_at hl 0 rfl) ?_
      refine lv_iload_n hx hb dX5_dimension_35 rfl (lv_at hl 1 rfl) ?_
      obtain ⟨r8, u8, e8, hF⟩ := bnd_s hF
      refine tw_calli (va_runV (As := [.int p1]) (rest := [.int (((tw_sf u1 6 0)).2 0 (1 : Int32).toNatClampNeg)]) ⟨hx, hb, hml, hown, hts⟩ (mt_rankAt l dC dI cI cZ m0 ad H.size (tw_sf u1 6 0) n  p1 _ e8) (cwV 1 hts (lw_V q2424 q2426 qs95 q125 q2427) rfl rfl rfl (by decide +kernel) ⟨Nat.le_of_ble_eq_true rfl, Nat.le_of_ble_eq_true rfl⟩) (tw_preV hK hP hD _) rfl rfl hl.1 rfl (lv_room (Nat.le_of_ble_eq_true rfl)) dX5_dimension_36 ⟨Nat.le_of_ble_eq_true rfl, Nat.le_of_ble_eq_true rfl⟩) hS hD hAA (fun rr uu H locs hw hP hD hS => ?_)
      obtain rfl : r8 = rr := (congrArg Prod.fst hw).symm
      obtain rfl : u8 = uu := (congrArg Prod.snd hw).symm
      refine lv_isub hx hb dX5_dimension_39 ?_
      exact W.iret (v := ((((tw_sf u1 6 0)).2 0 (1 : Int32).toNatClampNeg) - r8)) hx hb hr (fun t ht hW => ⟨⟨((((tw_sf u1 6 0)).2 0 (1 : Int32).toNatClampNeg) - r8), u8, rfl, Option.some.inj hF, by rw [ht]; exact hP, va_K.moved hW.alike hK⟩, hS.F ht⟩) hS.2.2 dX5_dimension_40
    · replace hF := it_f c6 hF
      refine lv_iconst (v := 0) hx hb dX5_dimension_24 (by decide) ?_
      refine lv_goto (tgt := 40) hx hb dX5_dimension_25 (by decide) ?_
      exact W.iret (v := 0) hx hb hr (fun t ht hW => ⟨⟨0, (tw_sf u1 6 0), rfl, Option.some.inj hF, by rw [ht]; exact hP, va_K.moved hW.alike hK⟩, hS.F ht⟩) hS.2.2 dX5_dimension_40

def F_eigenvalues_1 (R : Nat → Tw → Int32 → Int32 → Option (Int32 × Tw)) (n : Nat) (σ : Tw) (x1 : Int32) (x2 : Int32) : Option (Int32 × Tw) := gd (inB 0 162) (if ((σ).2 0 (0 : Int32).toNatClampNeg) ≤ x2 then some (x1, σ) else bnd (F_rankAt n σ x2) (fun r3 u3 => gd (inB 1 162) (if ((u3).2 0 (1 : Int32).toNatClampNeg) ≤ r3 then R 1 u3 (x1 + 0) (x2 + 1) else R 1 u3 (x1 + 1) (x2 + 1))))
def F_eigenvalues_r : Nat → Nat → Tw → Int32 → Int32 → Option (Int32 × Tw)
  | 0 => fun _ _ _ _ => none
  | n + 1 => fun k => match k with  | _ => F_eigenvalues_1 (F_eigenvalues_r n) n
def F_eigenvalues_0 (R : Nat → Tw → Int32 → Int32 → Option (Int32 × Tw)) (n : Nat) (σ : Tw) : Option (Int32 × Tw) := R 1 (tw_sf σ 6 0) 0 0
def F_eigenvalues (n : Nat) (σ : Tw) : Option (Int32 × Tw) := F_eigenvalues_0 (F_eigenvalues_r n) n σ 
set_option maxHeartbeats 4000000 in
set_option maxRecDepth 100000 in
theorem mt_eigenvalues (l : Launch) (dC : Nat → ClassId) (dI : Nat → Nat → Nat) (cI cZ : ClassId) (m0 : Nat) (ad : Nat → Nat) (sz : Nat) (σ : Tw) (n : Nat)  (out : Int32 × Tw) (hF : F_eigenvalues n σ  = some out) : Met l yX5_eigenvalues (ws_ yX5_eigenvalues cX5_eigenvalues 3 (some .int)) ({ frames := 5, cells := 0, slots := 0, locals := 118 }) (va_Pc [.ref m0] (tw_Pre dC dI cI cZ m0 ad sz σ)) (va_Qi (fun r u => (r, u) = out) (tw_B dC dI cI cZ m0 ad) (tw_A m0 ad sz)) 0 0 (tw_A m0 ad sz) := by
  refine Met.ofW (cc := cX5_eigenvalues) (maxL := 3) (ret := (some .int)) (by decide +kernel) rfl ?_
  intro p e s m args below meth c s₁ B hml hv
  obtain ⟨rfl, hsz, hP, hK, hD0⟩ := hv
  have hx := B.exec
  have hb := B.bytes
  have hr := B.returns
  have hts := atoms_spec (ws := (ws_ yX5_eigenvalues cX5_eigenvalues 3 (some .int))) B.pre
  have hts : ∀ w ∈ lw_all, w.before _ s = true := fun w h => hts w (List.mem_cons_of_mem _ h)
  have hown : s.vm.findClass RX5 = some m.cls := findClass_of_methodNamed B.named
  have hlocks := B.notSynchronized
  subst hsz
  have hD := tw_Ds (z := s.heap.size) hD0
  have hAA := fun z (h : s.heap.size ≤ z) => tw_Am (m0 := m0) (ad := ad) h
  generalize hAe : tw_A m0 ad s.heap.size = A at hD hAA ⊢
  have hS : va_S A s.heap s.heap [] := va_S.rf
  have hP : va_P (dC, dI) vwCl (tw_ws m0 ad cI cZ σ) s.heap := hP
  have hl := lv_entry ([.ref m0]) (n := 3) (Nat.le_of_ble_eq_true rfl)
  rw [lg_entry_eq]
  generalize (lg_sl ([.ref m0]) ++ List.replicate (3 - (lg_sl ([.ref m0])).length) Slot.unset).toArray = ls at hl ⊢
  have hl : lv_has ls 3 [(0, .ref m0)] := hl
  have loop : ∀ n : Nat, (∀ (σ : Tw) (x1 x2 : Int32), F_eigenvalues_r n 1 σ x1 x2 = some out → ∀ (H : Heap) (locs : List Loc), va_P (dC, dI) vwCl (tw_ws m0 ad cI cZ σ) H → va_D A (tw_ws m0 ad cI cZ σ) → va_S A s.heap H locs → ∀ ls : Array Slot, lv_has ls 3 [(0, .ref m0), (1, .int x1), (2, .int x2)] → W p l e (headSpec (ws_ yX5_eigenvalues cX5_eigenvalues 3 (some .int)) ({ frames := 5, cells := 0, slots := 0, locals := 118 })).room s m ([.ref m0] : List Value).toArray below meth c H locs 0 0 (MQ below (va_Qi (fun r u => (r, u) = out) (tw_B dC dI cI cZ m0 ad) A) ([.ref m0] : List Value).toArray s 0 0 A) (F0 m 9 ls [])) := by
    intro n
    induction n with
    | zero => exact (fun _ _ _ h => nomatch h)
    | succ n ih =>
      have lp1 := ih
      intro σ x1 x2 hF H locs hP hD hS ls hl
      replace hF : F_eigenvalues_1 (F_eigenvalues_r n) n σ x1 x2 = some out := hF
      unfold F_eigenvalues_1 at hF
      refine lv_iload_n hx hb dX5_eigenvalues_9 rfl (lv_at hl 2 rfl) ?_
      refine lv_aload_n hx hb dX5_eigenvalues_10 rfl (lv_at hl 0 rfl) ?_
      refine va_get (D := (dC, dI)) (ci := 0) (v := .ref (ad 0)) (C := RX5) (T := TX5) (N := 28) hx hb hts in_X5 hown hK hP 0 tw_g rfl 0 (by decide) (hts _ q1986) (fun _ h9 => h9) rfl dX5_eigenvalues_11 ?_
      refine lv_iconst (v := 0) hx hb dX5_eigenvalues_14 (by decide) ?_
      obtain ⟨g1, hF⟩ := gd_s hF
      refine va_iald hx hb hK hP 1 0 tw_e0 rfl (inB_in g1) dX5_eigenvalues_15 ?_
      refine lv_icmp_ge (tgt := 47) hx hb dX5_eigenvalues_16 (by decide) (fun c2 => ?_) (fun c2 => ?_)
      · replace hF := it_t c2 hF
        refine lv_iload_n hx hb dX5_eigenvalues_47 rfl (lv_at hl 1 rfl) ?_
        exact W.iret (v := x1) hx hb hr (fun t ht hW => ⟨⟨x1, σ, rfl, Option.some.inj hF, by rw [ht]; exact hP, va_K.moved hW.alike hK⟩, hS.F ht⟩) hS.2.2 dX5_eigenvalues_48
      · replace hF := it_f c2 hF
        refine lv_iload_n hx hb dX5_eigenvalues_19 rfl (lv_at hl 1 rfl) ?_
        refine lv_aload_n hx hb dX5_eigenvalues_20 rfl (lv_at hl 0 rfl) ?_
        refine lv_iload_n hx hb dX5_eigenvalues_21 rfl (lv_at hl 2 rfl) ?_
        obtain ⟨r3, u3, e3, hF⟩ := bnd_s hF
        refine tw_calli (va_runV (As := [.int x2]) (rest := [.int x1]) ⟨hx, hb, hml, hown, hts⟩ (mt_rankAt l dC dI cI cZ m0 ad H.size σ n  x2 _ e3) (cwV 1 hts (lw_V q2424 q2426 qs95 q125 q2427) rfl rfl rfl (by decide +kernel) ⟨Nat.le_of_ble_eq_true rfl, Nat.le_of_ble_eq_true rfl⟩) (tw_preV hK hP hD _) rfl rfl hl.1 rfl (lv_room (Nat.le_of_ble_eq_true rfl)) dX5_eigenvalues_22 ⟨Nat.le_of_ble_eq_true rfl, Nat.le_of_ble_eq_true rfl⟩) hS hD hAA (fun rr uu H locs hw hP hD hS => ?_)
        obtain rfl : r3 = rr := (congrArg Prod.fst hw).symm
        obtain rfl : u3 = uu := (congrArg Prod.snd hw).symm
        refine lv_aload_n hx hb dX5_eigenvalues_25 rfl (lv_at hl 0 rfl) ?_
        refine va_get (D := (dC, dI)) (ci := 0) (v := .ref (ad 0)) (C := RX5) (T := TX5) (N := 28) hx hb hts in_X5 hown hK hP 0 tw_g rfl 0 (by decide) (hts _ q1986) (fun _ h9 => h9) rfl dX5_eigenvalues_26 ?_
        refine lv_iconst (v := 1) hx hb dX5_eigenvalues_29 (by decide) ?_
        obtain ⟨g4, hF⟩ := gd_s hF
        refine va_iald hx hb hK hP 1 0 tw_e0 rfl (inB_in g4) dX5_eigenvalues_30 ?_
        refine lv_icmp_ge (tgt := 38) hx hb dX5_eigenvalues_31 (by decide) (fun c5 => ?_) (fun c5 => ?_)
        · replace hF := it_t c5 hF
          refine lv_iconst (v := 0) hx hb dX5_eigenvalues_38 (by decide) ?_
          refine lv_iadd hx hb dX5_eigenvalues_39 ?_
          refine lv_istore_n (lv' := [(1, .int (x1 + 0)), (0, .ref m0), (2, .int x2)]) hx hb dX5_eigenvalues_40 rfl hl (by decide) rfl (fun ls hl => ?_)
          refine lv_iinc (v := (x2 + 1)) (lv' := [(2, .int (x2 + 1)), (1, .int (x1 + 0)), (0, .ref m0)]) hx hb dX5_eigenvalues_41 hl (k := 2) rfl rfl (by decide) rfl (fun ls hl => ?_)
          refine lv_goto (tgt := 9) hx hb dX5_eigenvalues_44 (by decide) ?_
          exact lp1 u3 (x1 + 0) (x2 + 1) hF _ _ hP hD hS ls (lv_sub hl [2, 1, 0] rfl)
        · replace hF := it_f c5 hF
          refine lv_iconst (v := 1) hx hb dX5_eigenvalues_34 (by decide) ?_
          refine lv_goto (tgt := 39) hx hb dX5_eigenvalues_35 (by decide) ?_
          refine lv_iadd hx hb dX5_eigenvalues_39 ?_
          refine lv_istore_n (lv' := [(1, .int (x1 + 1)), (0, .ref m0), (2, .int x2)]) hx hb dX5_eigenvalues_40 rfl hl (by decide) rfl (fun ls hl => ?_)
          refine lv_iinc (v := (x2 + 1)) (lv' := [(2, .int (x2 + 1)), (1, .int (x1 + 1)), (0, .ref m0)]) hx hb dX5_eigenvalues_41 hl (k := 2) rfl rfl (by decide) rfl (fun ls hl => ?_)
          refine lv_goto (tgt := 9) hx hb dX5_eigenvalues_44 (by decide) ?_
          exact lp1 u3 (x1 + 1) (x2 + 1) hF _ _ hP hD hS ls (lv_sub hl [2, 1, 0] rfl)
  have lp1 := loop n
  unfold F_eigenvalues F_eigenvalues_0 at hF
  refine lv_aload_n hx hb dX5_eigenvalues_0 rfl (lv_at hl 0 rfl) ?_
  refine lv_iconst (v := 0) hx hb dX5_eigenvalues_1 (by decide) ?_
  refine va_put (D := (dC, dI)) (ci := 0) (v := .int 0) (ty := .int) (C := RX5) (T := TX5) (N := 28) hx hb hts in_X5 tyX5 tyX5_ok nmX5 hown hK hP hD hS 0 tw_g rfl 6 (by decide) (hts _ q1992) (fun _ h9 => h9) rfl (tyX5_ok 6 (by decide)) rfl rfl (Nat.le_of_ble_eq_true rfl) dX5_eigenvalues_2 (fun H locs hP hD hS => ?_)
  rw [tw_p6] at hP hD
  refine lv_iconst (v := 0) hx hb dX5_eigenvalues_5 (by decide) ?_
  refine lv_istore_n (lv' := [(1, .int 0), (0, .ref m0)]) hx hb dX5_eigenvalues_6 rfl hl (by decide) rfl (fun ls hl => ?_)
  refine lv_iconst (v := 0) hx hb dX5_eigenvalues_7 (by decide) ?_
  refine lv_istore_n (lv' := [(2, .int 0), (1, .int 0), (0, .ref m0)]) hx hb dX5_eigenvalues_8 rfl hl (by decide) rfl (fun ls hl => ?_)
  exact lp1 (tw_sf σ 6 0) 0 0 hF _ _ hP hD hS ls (lv_sub hl [2, 1, 0] rfl)

def F_isSplit_1 (R : Nat → Tw → Int32 → Int32 → Option (Int32 × Tw)) (n : Nat) (σ : Tw) (x1 : Int32) (x2 : Int32) : Option (Int32 × Tw) := gd (inB 0 162) (if ((σ).2 0 (0 : Int32).toNatClampNeg) ≤ x2 then gd (inB 1 162) (if x1 = ((σ).2 0 (1 : Int32).toNatClampNeg) then some (1, σ) else some (0, σ)) else gd (inB 1 162) (bnd (F_rankAt n σ x2) (fun r6 u6 => R 1 u6 (x1 + (((σ).2 0 (1 : Int32).toNatClampNeg) - r6)) (x2 + 1))))
def F_isSplit_r : Nat → Nat → Tw → Int32 → Int32 → Option (Int32 × Tw)
  | 0 => fun _ _ _ _ => none
  | n + 1 => fun k => match k with  | _ => F_isSplit_1 (F_isSplit_r n) n
def F_isSplit_0 (R : Nat → Tw → Int32 → Int32 → Option (Int32 × Tw)) (n : Nat) (σ : Tw) : Option (Int32 × Tw) := R 1 (tw_sf σ 6 0) 0 0
def F_isSplit (n : Nat) (σ : Tw) : Option (Int32 × Tw) := F_isSplit_0 (F_isSplit_r n) n σ 
set_option maxHeartbeats 4000000 in
set_option maxRecDepth 100000 in
theorem mt_isSplit (l : Launch) (dC : Nat → ClassId) (dI : Nat → Nat → Nat) (cI cZ : ClassId) (m0 : Nat) (ad : Nat → Nat) (sz : Nat) (σ : Tw) (n : Nat)  (out : Int32 × Tw) (hF : F_isSplit n σ  = some out) : Met l yX5_isSplit (ws_ yX5_isSplit cX5_isSplit 3 (some .boolean)) ({ frames := 5, cells := 0, slots := 0, locals := 118 }) (va_Pc [.ref m0] (tw_Pre dC dI cI cZ m0 ad sz σ)) (va_Qi (fun r u => (r, u) = out) (tw_B dC dI cI cZ m0 ad) (tw_A m0 ad sz)) 0 0 (tw_A m0 ad sz) := by
  refine Met.ofW (cc := cX5_isSplit) (maxL := 3) (ret := (some .boolean)) (by decide +kernel) rfl ?_
  intro p e s m args below meth c s₁ B hml hv
  obtain ⟨rfl, hsz, hP, hK, hD0⟩ := hv
  have hx := B.exec
  have hb := B.bytes
  have hr := B.returns
  have hts := atoms_spec (ws := (ws_ yX5_isSplit cX5_isSplit 3 (some .boolean))) B.pre
  have hts : ∀ w ∈ lw_all, w.before _ s = true := fun w h => hts w (List.mem_cons_of_mem _ h)
  have hown : s.vm.findClass RX5 = some m.cls := findClass_of_methodNamed B.named
  have hlocks := B.notSynchronized
  subst hsz
  have hD := tw_Ds (z := s.heap.size) hD0
  have hAA := fun z (h : s.heap.size ≤ z) => tw_Am (m0 := m0) (ad := ad) h
  generalize hAe : tw_A m0 ad s.heap.size = A at hD hAA ⊢
  have hS : va_S A s.heap s.heap [] := va_S.rf
  have hP : va_P (dC, dI) vwCl (tw_ws m0 ad cI cZ σ) s.heap := hP
  have hl := lv_entry ([.ref m0]) (n := 3) (Nat.le_of_ble_eq_true rfl)
  rw [lg_entry_eq]
  generalize (lg_sl ([.ref m0]) ++ List.replicate (3 - (lg_sl ([.ref m0])).length) Slot.unset).toArray = ls at hl ⊢
  have hl : lv_has ls 3 [(0, .ref m0)] := hl
  have loop : ∀ n : Nat, (∀ (σ : Tw) (x1 x2 : Int32), F_isSplit_r n 1 σ x1 x2 = some out → ∀ (H : Heap) (locs : List Loc), va_P (dC, dI) vwCl (tw_ws m0 ad cI cZ σ) H → va_D A (tw_ws m0 ad cI cZ σ) → va_S A s.heap H locs → ∀ ls : Array Slot, lv_has ls 3 [(0, .ref m0), (1, .int x1), (2, .int x2)] → W p l e (headSpec (ws_ yX5_isSplit cX5_isSplit 3 (some .boolean)) ({ frames := 5, cells := 0, slots := 0, locals := 118 })).room s m ([.ref m0] : List Value).toArray below meth c H locs 0 0 (MQ below (va_Qi (fun r u => (r, u) = out) (tw_B dC dI cI cZ m0 ad) A) ([.ref m0] : List Value).toArray s 0 0 A) (F0 m 9 ls [])) := by
    intro n
    induction n with
    | zero => exact (fun _ _ _ h => nomatch h)
    | succ n ih =>
      have lp1 := ih
      intro σ x1 x2 hF H locs hP hD hS ls hl
      replace hF : F_isSplit_1 (F_isSplit_r n) n σ x1 x2 = some out := hF
      unfold F_isSplit_1 at hF
      refine lv_iload_n hx hb dX5_isSplit_9 rfl (lv_at hl 2 rfl) ?_
      refine lv_aload_n hx hb dX5_isSplit_10 rfl (lv_at hl 0 rfl) ?_
      refine va_get (D := (dC, dI)) (ci := 0) (v := .ref (ad 0)) (C := RX5) (T := TX5) (N := 28) hx hb hts in_X5 hown hK hP 0 tw_g rfl 0 (by decide) (hts _ q1986) (fun _ h9 => h9) rfl dX5_isSplit_11 ?_
      refine lv_iconst (v := 0) hx hb dX5_isSplit_14 (by decide) ?_
      obtain ⟨g1, hF⟩ := gd_s hF
      refine va_iald hx hb hK hP 1 0 tw_e0 rfl (inB_in g1) dX5_isSplit_15 ?_
      refine lv_icmp_ge (tgt := 40) hx hb dX5_isSplit_16 (by decide) (fun c2 => ?_) (fun c2 => ?_)
      · replace hF := it_t c2 hF
        refine lv_iload_n hx hb dX5_isSplit_40 rfl (lv_at hl 1 rfl) ?_
        refine lv_aload_n hx hb dX5_isSplit_41 rfl (lv_at hl 0 rfl) ?_
        refine va_get (D := (dC, dI)) (ci := 0) (v := .ref (ad 0)) (C := RX5) (T := TX5) (N := 28) hx hb hts in_X5 hown hK hP 0 tw_g rfl 0 (by decide) (hts _ q1986) (fun _ h9 => h9) rfl dX5_isSplit_42 ?_
        refine lv_iconst (v := 1) hx hb dX5_isSplit_45 (by decide) ?_
        obtain ⟨g3, hF⟩ := gd_s hF
        refine va_iald hx hb hK hP 1 0 tw_e0 rfl (inB_in g3) dX5_isSplit_46 ?_
        refine lv_icmp_ne (tgt := 54) hx hb dX5_isSplit_47 (by decide) (fun c4 => ?_) (fun c4 => ?_)
        · replace hF := it_f c4 hF
          refine lv_iconst (v := 0) hx hb dX5_isSplit_54 (by decide) ?_
          exact W.zret (v := 0) hx hb hr rfl (fun t ht hW => ⟨⟨0, σ, rfl, Option.some.inj hF, by rw [ht]; exact hP, va_K.moved hW.alike hK⟩, hS.F ht⟩) hS.2.2 dX5_isSplit_55
        · replace hF := it_t c4 hF
          refine lv_iconst (v := 1) hx hb dX5_isSplit_50 (by decide) ?_
          refine lv_goto (tgt := 55) hx hb dX5_isSplit_51 (by decide) ?_
          exact W.zret (v := 1) hx hb hr rfl (fun t ht hW => ⟨⟨1, σ, rfl, Option.some.inj hF, by rw [ht]; exact hP, va_K.moved hW.alike hK⟩, hS.F ht⟩) hS.2.2 dX5_isSplit_55
      · replace hF := it_f c2 hF
        refine lv_iload_n hx hb dX5_isSplit_19 rfl (lv_at hl 1 rfl) ?_
        refine lv_aload_n hx hb dX5_isSplit_20 rfl (lv_at hl 0 rfl) ?_
        refine va_get (D := (dC, dI)) (ci := 0) (v := .ref (ad 0)) (C := RX5) (T := TX5) (N := 28) hx hb hts in_X5 hown hK hP 0 tw_g rfl 0 (by decide) (hts _ q1986) (fun _ h9 => h9) rfl dX5_isSplit_21 ?_
        refine lv_iconst (v := 1) hx hb dX5_isSplit_24 (by decide) ?_
        obtain ⟨g5, hF⟩ := gd_s hF
        refine va_iald hx hb hK hP 1 0 tw_e0 rfl (inB_in g5) dX5_isSplit_25 ?_
        refine lv_aload_n hx hb dX5_isSplit_26 rfl (lv_at hl 0 rfl) ?_
        refine lv_iload_n hx hb dX5_isSplit_27 rfl (lv_at hl 2 rfl) ?_
        obtain ⟨r6, u6, e6, hF⟩ := bnd_s hF
        refine tw_calli (va_runV (As := [.int x2]) (rest := [.int ((σ).2 0 (1 : Int32).toNatClampNeg), .int x1]) ⟨hx, hb, hml, hown, hts⟩ (mt_rankAt l dC dI cI cZ m0 ad H.size σ n  x2 _ e6) (cwV 1 hts (lw_V q2424 q2426 qs95 q125 q2427) rfl rfl rfl (by decide +kernel) ⟨Nat.le_of_ble_eq_true rfl, Nat.le_of_ble_eq_true rfl⟩) (tw_preV hK hP hD _) rfl rfl hl.1 rfl (lv_room (Nat.le_of_ble_eq_true rfl)) dX5_isSplit_28 ⟨Nat.le_of_ble_eq_true rfl, Nat.le_of_ble_eq_true rfl⟩) hS hD hAA (fun rr uu H locs hw hP hD hS => ?_)
        obtain rfl : r6 = rr := (congrArg Prod.fst hw).symm
        obtain rfl : u6 = uu := (congrArg Prod.snd hw).symm
        refine lv_isub hx hb dX5_isSplit_31 ?_
        refine lv_iadd hx hb dX5_isSplit_32 ?_
        refine lv_istore_n (lv' := [(1, .int (x1 + (((σ).2 0 (1 : Int32).toNatClampNeg) - r6))), (0, .ref m0), (2, .int x2)]) hx hb dX5_isSplit_33 rfl hl (by decide) rfl (fun ls hl => ?_)
        refine lv_iinc (v := (x2 + 1)) (lv' := [(2, .int (x2 + 1)), (1, .int (x1 + (((σ).2 0 (1 : Int32).toNatClampNeg) - r6))), (0, .ref m0)]) hx hb dX5_isSplit_34 hl (k := 2) rfl rfl (by decide) rfl (fun ls hl => ?_)
        refine lv_goto (tgt := 9) hx hb dX5_isSplit_37 (by decide) ?_
        exact lp1 u6 (x1 + (((σ).2 0 (1 : Int32).toNatClampNeg) - r6)) (x2 + 1) hF _ _ hP hD hS ls (lv_sub hl [2, 1, 0] rfl)
  have lp1 := loop n
  unfold F_isSplit F_isSplit_0 at hF
  refine lv_aload_n hx hb dX5_isSplit_0 rfl (lv_at hl 0 rfl) ?_
  refine lv_iconst (v := 0) hx hb dX5_isSplit_1 (by decide) ?_
  refine va_put (D := (dC, dI)) (ci := 0) (v := .int 0) (ty := .int) (C := RX5) (T := TX5) (N := 28) hx hb hts in_X5 tyX5 tyX5_ok nmX5 hown hK hP hD hS 0 tw_g rfl 6 (by decide) (hts _ q1992) (fun _ h9 => h9) rfl (tyX5_ok 6 (by decide)) rfl rfl (Nat.le_of_ble_eq_true rfl) dX5_isSplit_2 (fun H locs hP hD hS => ?_)
  rw [tw_p6] at hP hD
  refine lv_iconst (v := 0) hx hb dX5_isSplit_5 (by decide) ?_
  refine lv_istore_n (lv' := [(1, .int 0), (0, .ref m0)]) hx hb dX5_isSplit_6 rfl hl (by decide) rfl (fun ls hl => ?_)
  refine lv_iconst (v := 0) hx hb dX5_isSplit_7 (by decide) ?_
  refine lv_istore_n (lv' := [(2, .int 0), (1, .int 0), (0, .ref m0)]) hx hb dX5_isSplit_8 rfl hl (by decide) rfl (fun ls hl => ?_)
  exact lp1 (tw_sf σ 6 0) 0 0 hF _ _ hP hD hS ls (lv_sub hl [2, 1, 0] rfl)

def F_reachBy_1 (R : Nat → Tw → Int32 → Int32 → Option (Int32 × Tw)) (n : Nat) (σ : Tw) (x1 : Int32) (x2 : Int32) : Option (Int32 × Tw) := gd (inB 1 162) (if ((σ).2 0 (1 : Int32).toNatClampNeg) ≤ x1 then gd (inB 1 162) (gd (inB 1 162) (bnd (F_ranks n σ ((σ).2 0 (1 : Int32).toNatClampNeg) ((σ).2 0 (1 : Int32).toNatClampNeg)) (fun r5 u5 => some (r5, u5)))) else R 2 σ x1 0)
def F_reachBy_2 (R : Nat → Tw → Int32 → Int32 → Option (Int32 × Tw)) (n : Nat) (σ : Tw) (x1 : Int32) (x2 : Int32) : Option (Int32 × Tw) := if 9 ≤ x2 then bnd (F_multiplies_xy n σ ) (fun r7 u7 => R 3 u7 x1 0) else gd (inB 1 162) (if ((σ).2 0 (1 : Int32).toNatClampNeg) ≤ x2 then gd (inB ((9 * x1) + x2) 72) (R 2 (tw_sa σ 24 (((9 * x1) + x2)).toNatClampNeg 0) x1 (x2 + 1)) else gd (inB x2 8) (gd (inB ((9 * x1) + x2) 72) (R 2 (tw_sa σ 24 (((9 * x1) + x2)).toNatClampNeg ((σ).2 17 (x2).toNatClampNeg)) x1 (x2 + 1))))
def F_reachBy_3 (R : Nat → Tw → Int32 → Int32 → Option (Int32 × Tw)) (n : Nat) (σ : Tw) (x1 : Int32) (x2 : Int32) : Option (Int32 × Tw) := gd (inB 1 162) (if ((σ).2 0 (1 : Int32).toNatClampNeg) ≤ x2 then R 1 σ (x1 + 1) x2 else gd (inB x2 8) (gd (inB x2 8) (R 3 (tw_sa σ 17 (x2).toNatClampNeg ((σ).2 18 (x2).toNatClampNeg)) x1 (x2 + 1))))
def F_reachBy_r : Nat → Nat → Tw → Int32 → Int32 → Option (Int32 × Tw)
  | 0 => fun _ _ _ _ => none
  | n + 1 => fun k => match k with | 1 => F_reachBy_1 (F_reachBy_r n) n | 2 => F_reachBy_2 (F_reachBy_r n) n | _ => F_reachBy_3 (F_reachBy_r n) n
def F_reachBy_0 (R : Nat → Tw → Int32 → Int32 → Option (Int32 × Tw)) (n : Nat) (σ : Tw) : Option (Int32 × Tw) := R 1 σ 0 0
def F_reachBy (n : Nat) (σ : Tw) : Option (Int32 × Tw) := F_reachBy_0 (F_reachBy_r n) n σ 
set_option maxHeartbeats 4000000 in
set_option maxRecDepth 100000 in
theorem mt_reachBy (l : Launch) (dC : Nat → ClassId) (dI : Nat → Nat → Nat) (cI cZ : ClassId) (m0 : Nat) (ad : Nat → Nat) (sz : Nat) (σ : Tw) (n : Nat)  (out : Int32 × Tw) (hF : F_reachBy n σ  = some out) : Met l yX5_reachBy (ws_ yX5_reachBy cX5_reachBy 3 (some .int)) ({ frames := 4, cells := 0, slots := 0, locals := 95 }) (va_Pc [.ref m0] (tw_Pre dC dI cI cZ m0 ad sz σ)) (va_Qi (fun r u => (r, u) = out) (tw_B dC dI cI cZ m0 ad) (tw_A m0 ad sz)) 0 0 (tw_A m0 ad sz) := by
  refine Met.ofW (cc := cX5_reachBy) (maxL := 3) (ret := (some .int)) (by decide +kernel) rfl ?_
  intro p e s m args below meth c s₁ B hml hv
  obtain ⟨rfl, hsz, hP, hK, hD0⟩ := hv
  have hx := B.exec
  have hb := B.bytes
  have hr := B.returns
  have hts := atoms_spec (ws := (ws_ yX5_reachBy cX5_reachBy 3 (some .int))) B.pre
  have hts : ∀ w ∈ lw_all, w.before _ s = true := fun w h => hts w (List.mem_cons_of_mem _ h)
  have hown : s.vm.findClass RX5 = some m.cls := findClass_of_methodNamed B.named
  have hlocks := B.notSynchronized
  subst hsz
  have hD := tw_Ds (z := s.heap.size) hD0
  have hAA := fun z (h : s.heap.size ≤ z) => tw_Am (m0 := m0) (ad := ad) h
  generalize hAe : tw_A m0 ad s.heap.size = A at hD hAA ⊢
  have hS : va_S A s.heap s.heap [] := va_S.rf
  have hP : va_P (dC, dI) vwCl (tw_ws m0 ad cI cZ σ) s.heap := hP
  have hl := lv_entry ([.ref m0]) (n := 3) (Nat.le_of_ble_eq_true rfl)
  rw [lg_entry_eq]
  generalize (lg_sl ([.ref m0]) ++ List.replicate (3 - (lg_sl ([.ref m0])).length) Slot.unset).toArray = ls at hl ⊢
  have hl : lv_has ls 3 [(0, .ref m0)] := hl
  have loop : ∀ n : Nat, (∀ (σ : Tw) (x1 x2 : Int32), F_reachBy_r n 1 σ x1 x2 = some out → ∀ (H : Heap) (locs : List Loc), va_P (dC, dI) vwCl (tw_ws m0 ad cI cZ σ) H → va_D A (tw_ws m0 ad cI cZ σ) → va_S A s.heap H locs → ∀ ls : Array Slot, lv_has ls 3 [(0, .ref m0), (1, .int x1)] → W p l e (headSpec (ws_ yX5_reachBy cX5_reachBy 3 (some .int)) ({ frames := 4, cells := 0, slots := 0, locals := 95 })).room s m ([.ref m0] : List Value).toArray below meth c H locs 0 0 (MQ below (va_Qi (fun r u => (r, u) = out) (tw_B dC dI cI cZ m0 ad) A) ([.ref m0] : List Value).toArray s 0 0 A) (F0 m 2 ls [])) ∧ (∀ (σ : Tw) (x1 x2 : Int32), F_reachBy_r n 2 σ x1 x2 = some out → ∀ (H : Heap) (locs : List Loc), va_P (dC, dI) vwCl (tw_ws m0 ad cI cZ σ) H → va_D A (tw_ws m0 ad cI cZ σ) → va_S A s.heap H locs → ∀ ls : Array Slot, lv_has ls 3 [(0, .ref m0), (1, .int x1), (2, .int x2)] → W p l e (headSpec (ws_ yX5_reachBy cX5_reachBy 3 (some .int)) ({ frames := 4, cells := 0, slots := 0, locals := 95 })).room s m ([.ref m0] : List Value).toArray below meth c H locs 0 0 (MQ below (va_Qi (fun r u => (r, u) = out) (tw_B dC dI cI cZ m0 ad) A) ([.ref m0] : List Value).toArray s 0 0 A) (F0 m 14 ls [])) ∧ (∀ (σ : Tw) (x1 x2 : Int32), F_reachBy_r n 3 σ x1 x2 = some out → ∀ (H : Heap) (locs : List Loc), va_P (dC, dI) vwCl (tw_ws m0 ad cI cZ σ) H → va_D A (tw_ws m0 ad cI cZ σ) → va_S A s.heap H locs → ∀ ls : Array Slot, lv_has ls 3 [(0, .ref m0), (1, .int x1), (2, .int x2)] → W p l e (headSpec (ws_ yX5_reachBy cX5_reachBy 3 (some .int)) ({ frames := 4, cells := 0, slots := 0, locals := 95 })).room s m ([.ref m0] : List Value).toArray below meth c H locs 0 0 (MQ below (va_Qi (fun r u => (r, u) = out) (tw_B dC dI cI cZ m0 ad) A) ([.ref m0] : List Value).toArray s 0 0 A) (F0 m 71 ls [])) := by
    intro n
    induction n with
    | zero => exact ⟨(fun _ _ _ h => nomatch h), (fun _ _ _ h => nomatch h), (fun _ _ _ h => nomatch h)⟩
    | succ n ih =>
      obtain ⟨lp1, lp2, lp3⟩ := ih
      refine ⟨?_, ?_, ?_⟩
      · intro σ x1 x2 hF H locs hP hD hS ls hl
        replace hF : F_reachBy_1 (F_reachBy_r n) n σ x1 x2 = some out := hF
        unfold F_reachBy_1 at hF
        refine lv_iload_n hx hb dX5_reachBy_2 rfl (lv_at hl 1 rfl) ?_
        refine lv_aload_n hx hb dX5_reachBy_3 rfl (lv_at hl 0 rfl) ?_
        refine va_get (D := (dC, dI)) (ci := 0) (v := .ref (ad 0)) (C := RX5) (T := TX5) (N := 28) hx hb hts in_X5 hown hK hP 0 tw_g rfl 0 (by decide) (hts _ q1986) (fun _ h9 => h9) rfl dX5_reachBy_4 ?_
        refine lv_iconst (v := 1) hx hb dX5_reachBy_7 (by decide) ?_
        obtain ⟨g1, hF⟩ := gd_s hF
        refine va_iald hx hb hK hP 1 0 tw_e0 rfl (inB_in g1) dX5_reachBy_8 ?_
        refine lv_icmp_ge (tgt := 105) hx hb dX5_reachBy_9 (by decide) (fun c2 => ?_) (fun c2 => ?_)
        · replace hF := it_t c2 hF
          refine lv_aload_n hx hb dX5_reachBy_105 rfl (lv_at hl 0 rfl) ?_
          refine lv_aload_n hx hb dX5_reachBy_106 rfl (lv_at hl 0 rfl) ?_
          refine va_get (D := (dC, dI)) (ci := 0) (v := .ref (ad 0)) (C := RX5) (T := TX5) (N := 28) hx hb hts in_X5 hown hK hP 0 tw_g rfl 0 (by decide) (hts _ q1986) (fun _ h9 => h9) rfl dX5_reachBy_107 ?_
          refine lv_iconst (v := 1) hx hb dX5_reachBy_110 (by decide) ?_
          obtain ⟨g3, hF⟩ := gd_s hF
          refine va_iald hx hb hK hP 1 0 tw_e0 rfl (inB_in g3) dX5_reachBy_111 ?_
          refine lv_aload_n hx hb dX5_reachBy_112 rfl (lv_at hl 0 rfl) ?_
          refine va_get (D := (dC, dI)) (ci := 0) (v := .ref (ad 0)) (C := RX5) (T := TX5) (N := 28) hx hb hts in_X5 hown hK hP 0 tw_g rfl 0 (by decide) (hts _ q1986) (fun _ h9 => h9) rfl dX5_reachBy_113 ?_
          refine lv_iconst (v := 1) hx hb dX5_reachBy_116 (by decide) ?_
          obtain ⟨g4, hF⟩ := gd_s hF
          refine va_iald hx hb hK hP 1 0 tw_e0 rfl (inB_in g4) dX5_reachBy_117 ?_
          obtain ⟨r5, u5, e5, hF⟩ := bnd_s hF
          refine tw_calli (va_runV (As := [.int ((σ).2 0 (1 : Int32).toNatClampNeg), .int ((σ).2 0 (1 : Int32).toNatClampNeg)]) (rest := []) ⟨hx, hb, hml, hown, hts⟩ (mt_ranks l dC dI cI cZ m0 ad H.size σ n  ((σ).2 0 (1 : Int32).toNatClampNeg) ((σ).2 0 (1 : Int32).toNatClampNeg) _ e5) (cwV 2 hts (lw_V q2384 q2386 qs90 q125 q2387) rfl rfl rfl (by decide +kernel) ⟨Nat.le_of_ble_eq_true rfl, Nat.le_of_ble_eq_true rfl⟩) (tw_preV hK hP hD _) rfl rfl hl.1 rfl (lv_room (Nat.le_of_ble_eq_true rfl)) dX5_reachBy_118 ⟨Nat.le_of_ble_eq_true rfl, Nat.le_of_ble_eq_true rfl⟩) hS hD hAA (fun rr uu H locs hw hP hD hS => ?_)
          obtain rfl : r5 = rr := (congrArg Prod.fst hw).symm
          obtain rfl : u5 = uu := (congrArg Prod.snd hw).symm
          exact W.iret (v := r5) hx hb hr (fun t ht hW => ⟨⟨r5, u5, rfl, Option.some.inj hF, by rw [ht]; exact hP, va_K.moved hW.alike hK⟩, hS.F ht⟩) hS.2.2 dX5_reachBy_121
        · replace hF := it_f c2 hF
          refine lv_iconst (v := 0) hx hb dX5_reachBy_12 (by decide) ?_
          refine lv_istore_n (lv' := [(2, .int 0), (0, .ref m0), (1, .int x1)]) hx hb dX5_reachBy_13 rfl hl (by decide) rfl (fun ls hl => ?_)
          exact lp2 σ x1 0 hF _ _ hP hD hS ls (lv_sub hl [1, 2, 0] rfl)
      · intro σ x1 x2 hF H locs hP hD hS ls hl
        replace hF : F_reachBy_2 (F_reachBy_r n) n σ x1 x2 = some out := hF
        unfold F_reachBy_2 at hF
        refine lv_iload_n hx hb dX5_reachBy_14 rfl (lv_at hl 2 rfl) ?_
        refine lv_bipush (v := 9) hx hb dX5_reachBy_15 (by decide) ?_
        refine lv_icmp_ge (tgt := 57) hx hb dX5_reachBy_17 (by decide) (fun c6 => ?_) (fun c6 => ?_)
        · replace hF := it_t c6 hF
          refine lv_aload_n hx hb dX5_reachBy_57 rfl (lv_at hl 0 rfl) ?_
          refine lv_aload_n hx hb dX5_reachBy_58 rfl (lv_at hl 0 rfl) ?_
          refine va_get (D := (dC, dI)) (ci := 0) (v := .ref (ad 17)) (C := RX5) (T := TX5) (N := 28) hx hb hts in_X5 hown hK hP 0 tw_g rfl 17 (by decide) (hts _ q2003) (fun _ h9 => h9) rfl dX5_reachBy_59 ?_
          refine lv_aload_n hx hb dX5_reachBy_62 rfl (lv_at hl 0 rfl) ?_
          refine va_get (D := (dC, dI)) (ci := 0) (v := .ref (ad 18)) (C := RX5) (T := TX5) (N := 28) hx hb hts in_X5 hown hK hP 0 tw_g rfl 18 (by decide) (hts _ q2004) (fun _ h9 => h9) rfl dX5_reachBy_63 ?_
          obtain ⟨r7, u7, e7, hF⟩ := bnd_s hF
          refine tw_callv (va_runV (As := [.ref (ad 17), .ref (ad 18)]) (rest := []) ⟨hx, hb, hml, hown, hts⟩ (mt_multiplies_xy l dC dI cI cZ m0 ad H.size σ n   _ e7) (cwV 2 hts (lw_V q2249 q2251 qs69 q125 q2252) rfl rfl rfl (by decide +kernel) ⟨Nat.le_of_ble_eq_true rfl, Nat.le_of_ble_eq_true rfl⟩) (tw_preV hK hP hD _) rfl rfl hl.1 rfl (lv_room (Nat.le_of_ble_eq_true rfl)) dX5_reachBy_66 ⟨Nat.le_of_ble_eq_true rfl, Nat.le_of_ble_eq_true rfl⟩) hS hD hAA (fun uu H locs hw hP hD hS => ?_)
          obtain rfl : u7 = uu := (congrArg Prod.snd hw).symm
          refine lv_iconst (v := 0) hx hb dX5_reachBy_69 (by decide) ?_
          refine lv_istore_n (lv' := [(2, .int 0), (0, .ref m0), (1, .int x1)]) hx hb dX5_reachBy_70 rfl hl (by decide) rfl (fun ls hl => ?_)
          exact lp3 u7 x1 0 hF _ _ hP hD hS ls (lv_sub hl [1, 2, 0] rfl)
        · replace hF := it_f c6 hF
          refine lv_aload_n hx hb dX5_reachBy_20 rfl (lv_at hl 0 rfl) ?_
          refine va_get (D := (dC, dI)) (ci := 0) (v := .ref (ad 24)) (C := RX5) (T := TX5) (N := 28) hx hb hts in_X5 hown hK hP 0 tw_g rfl 24 (by decide) (hts _ q2010) (fun _ h9 => h9) rfl dX5_reachBy_21 ?_
          refine lv_bipush (v := 9) hx hb dX5_reachBy_24 (by decide) ?_
          refine lv_iload_n hx hb dX5_reachBy_26 rfl (lv_at hl 1 rfl) ?_
          refine lv_imul hx hb dX5_reachBy_27 ?_
          refine lv_iload_n hx hb dX5_reachBy_28 rfl (lv_at hl 2 rfl) ?_
          refine lv_iadd hx hb dX5_reachBy_29 ?_
          refine lv_iload_n hx hb dX5_reachBy_30 rfl (lv_at hl 2 rfl) ?_
          refine lv_aload_n hx hb dX5_reachBy_31 rfl (lv_at hl 0 rfl) ?_
          refine va_get (D := (dC, dI)) (ci := 0) (v := .ref (ad 0)) (C := RX5) (T := TX5) (N := 28) hx hb hts in_X5 hown hK hP 0 tw_g rfl 0 (by decide) (hts _ q1986) (fun _ h9 => h9) rfl dX5_reachBy_32 ?_
          refine lv_iconst (v := 1) hx hb dX5_reachBy_35 (by decide) ?_
          obtain ⟨g8, hF⟩ := gd_s hF
          refine va_iald hx hb hK hP 1 0 tw_e0 rfl (inB_in g8) dX5_reachBy_36 ?_
          refine lv_icmp_ge (tgt := 49) hx hb dX5_reachBy_37 (by decide) (fun c9 => ?_) (fun c9 => ?_)
          · replace hF := it_t c9 hF
            refine lv_iconst (v := 0) hx hb dX5_reachBy_49 (by decide) ?_
            obtain ⟨g10, hF⟩ := gd_s hF
            refine va_iast hx hb hK hP hD hS 13 0 tw_e24 rfl (x := 0) (inB_in g10) dX5_reachBy_50 (fun H locs hP hD hS => ?_)
            rw [tw_s24] at hP hD
            refine lv_iinc (v := (x2 + 1)) (lv' := [(2, .int (x2 + 1)), (0, .ref m0), (1, .int x1)]) hx hb dX5_reachBy_51 hl (k := 2) rfl rfl (by decide) rfl (fun ls hl => ?_)
            refine lv_goto (tgt := 14) hx hb dX5_reachBy_54 (by decide) ?_
            exact lp2 (tw_sa σ 24 (((9 * x1) + x2)).toNatClampNeg 0) x1 (x2 + 1) hF _ _ hP hD hS ls (lv_sub hl [1, 2, 0] rfl)
          · replace hF := it_f c9 hF
            refine lv_aload_n hx hb dX5_reachBy_40 rfl (lv_at hl 0 rfl) ?_
            refine va_get (D := (dC, dI)) (ci := 0) (v := .ref (ad 17)) (C := RX5) (T := TX5) (N := 28) hx hb hts in_X5 hown hK hP 0 tw_g rfl 17 (by decide) (hts _ q2003) (fun _ h9 => h9) rfl dX5_reachBy_41 ?_
            refine lv_iload_n hx hb dX5_reachBy_44 rfl (lv_at hl 2 rfl) ?_
            obtain ⟨g11, hF⟩ := gd_s hF
            refine va_iald hx hb hK hP 7 0 tw_e17 rfl (inB_in g11) dX5_reachBy_45 ?_
            refine lv_goto (tgt := 50) hx hb dX5_reachBy_46 (by decide) ?_
            obtain ⟨g12, hF⟩ := gd_s hF
            refine va_iast hx hb hK hP hD hS 13 0 tw_e24 rfl (x := ((σ).2 17 (x2).toNatClampNeg)) (inB_in g12) dX5_reachBy_50 (fun H locs hP hD hS => ?_)
            rw [tw_s24] at hP hD
            refine lv_iinc (v := (x2 + 1)) (lv' := [(2, .int (x2 + 1)), (0, .ref m0), (1, .int x1)]) hx hb dX5_reachBy_51 hl (k := 2) rfl rfl (by decide) rfl (fun ls hl => ?_)
            refine lv_goto (tgt := 14) hx hb dX5_reachBy_54 (by decide) ?_
            exact lp2 (tw_sa σ 24 (((9 * x1) + x2)).toNatClampNeg ((σ).2 17 (x2).toNatClampNeg)) x1 (x2 + 1) hF _ _ hP hD hS ls (lv_sub hl [1, 2, 0] rfl)
      · intro σ x1 x2 hF H locs hP hD hS ls hl
        replace hF : F_reachBy_3 (F_reachBy_r n) n σ x1 x2 = some out := hF
        unfold F_reachBy_3 at hF
        refine lv_iload_n hx hb dX5_reachBy_71 rfl (lv_at hl 2 rfl) ?_
        refine lv_aload_n hx hb dX5_reachBy_72 rfl (lv_at hl 0 rfl) ?_
        refine va_get (D := (dC, dI)) (ci := 0) (v := .ref (ad 0)) (C := RX5) (T := TX5) (N := 28) hx hb hts in_X5 hown hK hP 0 tw_g rfl 0 (by decide) (hts _ q1986) (fun _ h9 => h9) rfl dX5_reachBy_73 ?_
        refine lv_iconst (v := 1) hx hb dX5_reachBy_76 (by decide) ?_
        obtain ⟨g13, hF⟩ := gd_s hF
        refine va_iald hx hb hK hP 1 0 tw_e0 rfl (inB_in g13) dX5_reachBy_77 ?_
        refine lv_icmp_ge (tgt := 99) hx hb dX5_reachBy_78 (by decide) (fun c14 => ?_) (fun c14 => ?_)
        · replace hF := it_t c14 hF
          refine lv_iinc (v := (x1 + 1)) (lv' := [(1, .int (x1 + 1)), (0, .ref m0), (2, .int x2)]) hx hb dX5_reachBy_99 hl (k := 1) rfl rfl (by decide) rfl (fun ls hl => ?_)
          refine lv_goto (tgt := 2) hx hb dX5_reachBy_102 (by decide) ?_
          exact lp1 σ (x1 + 1) x2 hF _ _ hP hD hS ls (lv_sub hl [1, 0] rfl)
        · replace hF := it_f c14 hF
          refine lv_aload_n hx hb dX5_reachBy_81 rfl (lv_at hl 0 rfl) ?_
          refine va_get (D := (dC, dI)) (ci := 0) (v := .ref (ad 17)) (C := RX5) (T := TX5) (N := 28) hx hb hts in_X5 hown hK hP 0 tw_g rfl 17 (by decide) (hts _ q2003) (fun _ h9 => h9) rfl dX5_reachBy_82 ?_
          refine lv_iload_n hx hb dX5_reachBy_85 rfl (lv_at hl 2 rfl) ?_
          refine lv_aload_n hx hb dX5_reachBy_86 rfl (lv_at hl 0 rfl) ?_
          refine va_get (D := (dC, dI)) (ci := 0) (v := .ref (ad 18)) (C := RX5) (T := TX5) (N := 28) hx hb hts in_X5 hown hK hP 0 tw_g rfl 18 (by decide) (hts _ q2004) (fun _ h9 => h9) rfl dX5_reachBy_87 ?_
          refine lv_iload_n hx hb dX5_reachBy_90 rfl (lv_at hl 2 rfl) ?_
          obtain ⟨g15, hF⟩ := gd_s hF
          refine va_iald hx hb hK hP 8 0 tw_e18 rfl (inB_in g15) dX5_reachBy_91 ?_
          obtain ⟨g16, hF⟩ := gd_s hF
          refine va_iast hx hb hK hP hD hS 7 0 tw_e17 rfl (x := ((σ).2 18 (x2).toNatClampNeg)) (inB_in g16) dX5_reachBy_92 (fun H locs hP hD hS => ?_)
          rw [tw_s17] at hP hD
          refine lv_iinc (v := (x2 + 1)) (lv' := [(2, .int (x2 + 1)), (0, .ref m0), (1, .int x1)]) hx hb dX5_reachBy_93 hl (k := 2) rfl rfl (by decide) rfl (fun ls hl => ?_)
          refine lv_goto (tgt := 71) hx hb dX5_reachBy_96 (by decide) ?_
          exact lp3 (tw_sa σ 17 (x2).toNatClampNeg ((σ).2 18 (x2).toNatClampNeg)) x1 (x2 + 1) hF _ _ hP hD hS ls (lv_sub hl [1, 2, 0] rfl)
  obtain ⟨lp1, lp2, lp3⟩ := loop n
  unfold F_reachBy F_reachBy_0 at hF
  refine lv_iconst (v := 0) hx hb dX5_reachBy_0 (by decide) ?_
  refine lv_istore_n (lv' := [(1, .int 0), (0, .ref m0)]) hx hb dX5_reachBy_1 rfl hl (by decide) rfl (fun ls hl => ?_)
  exact lp1 σ 0 0 hF _ _ hP hD hS ls (lv_sub hl [1, 0] rfl)

def F_reach_1 (R : Nat → Tw → Int32 → Option (Int32 × Tw)) (n : Nat) (σ : Tw) (x1 : Int32) : Option (Int32 × Tw) := gd (inB 1 162) (if ((σ).2 0 (1 : Int32).toNatClampNeg) ≤ x1 then bnd (F_reachBy n σ ) (fun r3 u3 => some (r3, u3)) else gd (inB (73 + x1) 162) (gd (inB x1 8) (R 1 (tw_sa σ 17 (x1).toNatClampNeg ((σ).2 0 ((73 + x1)).toNatClampNeg)) (x1 + 1))))
def F_reach_r : Nat → Nat → Tw → Int32 → Option (Int32 × Tw)
  | 0 => fun _ _ _ => none
  | n + 1 => fun k => match k with  | _ => F_reach_1 (F_reach_r n) n
def F_reach_0 (R : Nat → Tw → Int32 → Option (Int32 × Tw)) (n : Nat) (σ : Tw) : Option (Int32 × Tw) := R 1 (tw_sf σ 6 0) 0
def F_reach (n : Nat) (σ : Tw) : Option (Int32 × Tw) := F_reach_0 (F_reach_r n) n σ 
set_option maxHeartbeats 4000000 in
set_option maxRecDepth 100000 in
theorem mt_reach (l : Launch) (dC : Nat → ClassId) (dI : Nat → Nat → Nat) (cI cZ : ClassId) (m0 : Nat) (ad : Nat → Nat) (sz : Nat) (σ : Tw) (n : Nat)  (out : Int32 × Tw) (hF : F_reach n σ  = some out) : Met l yX5_reach (ws_ yX5_reach cX5_reach 2 (some .int)) ({ frames := 5, cells := 0, slots := 0, locals := 117 }) (va_Pc [.ref m0] (tw_Pre dC dI cI cZ m0 ad sz σ)) (va_Qi (fun r u => (r, u) = out) (tw_B dC dI cI cZ m0 ad) (tw_A m0 ad sz)) 0 0 (tw_A m0 ad sz) := by
  refine Met.ofW (cc := cX5_reach) (maxL := 2) (ret := (some .int)) (by decide +kernel) rfl ?_
  intro p e s m args below meth c s₁ B hml hv
  obtain ⟨rfl, hsz, hP, hK, hD0⟩ := hv
  have hx := B.exec
  have hb := B.bytes
  have hr := B.returns
  have hts := atoms_spec (ws := (ws_ yX5_reach cX5_reach 2 (some .int))) B.pre
  have hts : ∀ w ∈ lw_all, w.before _ s = true := fun w h => hts w (List.mem_cons_of_mem _ h)
  have hown : s.vm.findClass RX5 = some m.cls := findClass_of_methodNamed B.named
  have hlocks := B.notSynchronized
  subst hsz
  have hD := tw_Ds (z := s.heap.size) hD0
  have hAA := fun z (h : s.heap.size ≤ z) => tw_Am (m0 := m0) (ad := ad) h
  generalize hAe : tw_A m0 ad s.heap.size = A at hD hAA ⊢
  have hS : va_S A s.heap s.heap [] := va_S.rf
  have hP : va_P (dC, dI) vwCl (tw_ws m0 ad cI cZ σ) s.heap := hP
  have hl := lv_entry ([.ref m0]) (n := 2) (Nat.le_of_ble_eq_true rfl)
  rw [lg_entry_eq]
  generalize (lg_sl ([.ref m0]) ++ List.replicate (2 - (lg_sl ([.ref m0])).length) Slot.unset).toArray = ls at hl ⊢
  have hl : lv_has ls 2 [(0, .ref m0)] := hl
  have loop : ∀ n : Nat, (∀ (σ : Tw) (x1 : Int32), F_reach_r n 1 σ x1 = some out → ∀ (H : Heap) (locs : List Loc), va_P (dC, dI) vwCl (tw_ws m0 ad cI cZ σ) H → va_D A (tw_ws m0 ad cI cZ σ) → va_S A s.heap H locs → ∀ ls : Array Slot, lv_has ls 2 [(0, .ref m0), (1, .int x1)] → W p l e (headSpec (ws_ yX5_reach cX5_reach 2 (some .int)) ({ frames := 5, cells := 0, slots := 0, locals := 117 })).room s m ([.ref m0] : List Value).toArray below meth c H locs 0 0 (MQ below (va_Qi (fun r u => (r, u) = out) (tw_B dC dI cI cZ m0 ad) A) ([.ref m0] : List Value).toArray s 0 0 A) (F0 m 7 ls [])) := by
    intro n
    induction n with
    | zero => exact (fun _ _ h => nomatch h)
    | succ n ih =>
      have lp1 := ih
      intro σ x1 hF H locs hP hD hS ls hl
      replace hF : F_reach_1 (F_reach_r n) n σ x1 = some out := hF
      unfold F_reach_1 at hF
      refine lv_iload_n hx hb dX5_reach_7 rfl (lv_at hl 1 rfl) ?_
      refine lv_aload_n hx hb dX5_reach_8 rfl (lv_at hl 0 rfl) ?_
      refine va_get (D := (dC, dI)) (ci := 0) (v := .ref (ad 0)) (C := RX5) (T := TX5) (N := 28) hx hb hts in_X5 hown hK hP 0 tw_g rfl 0 (by decide) (hts _ q1986) (fun _ h9 => h9) rfl dX5_reach_9 ?_
      refine lv_iconst (v := 1) hx hb dX5_reach_12 (by decide) ?_
      obtain ⟨g1, hF⟩ := gd_s hF
      refine va_iald hx hb hK hP 1 0 tw_e0 rfl (inB_in g1) dX5_reach_13 ?_
      refine lv_icmp_ge (tgt := 38) hx hb dX5_reach_14 (by decide) (fun c2 => ?_) (fun c2 => ?_)
      · replace hF := it_t c2 hF
        refine lv_aload_n hx hb dX5_reach_38 rfl (lv_at hl 0 rfl) ?_
        obtain ⟨r3, u3, e3, hF⟩ := bnd_s hF
        refine tw_calli (va_runV (As := []) (rest := []) ⟨hx, hb, hml, hown, hts⟩ (mt_reachBy l dC dI cI cZ m0 ad H.size σ n   _ e3) (cwV 0 hts (lw_V q2444 q2446 qs96 q125 q2447) rfl rfl rfl (by decide +kernel) ⟨Nat.le_of_ble_eq_true rfl, Nat.le_of_ble_eq_true rfl⟩) (tw_preV hK hP hD _) rfl rfl hl.1 rfl (lv_room (Nat.le_of_ble_eq_true rfl)) dX5_reach_39 ⟨Nat.le_of_ble_eq_true rfl, Nat.le_of_ble_eq_true rfl⟩) hS hD hAA (fun rr uu H locs hw hP hD hS => ?_)
        obtain rfl : r3 = rr := (congrArg Prod.fst hw).symm
        obtain rfl : u3 = uu := (congrArg Prod.snd hw).symm
        exact W.iret (v := r3) hx hb hr (fun t ht hW => ⟨⟨r3, u3, rfl, Option.some.inj hF, by rw [ht]; exact hP, va_K.moved hW.alike hK⟩, hS.F ht⟩) hS.2.2 dX5_reach_42
      · replace hF := it_f c2 hF
        refine lv_aload_n hx hb dX5_reach_17 rfl (lv_at hl 0 rfl) ?_
        refine va_get (D := (dC, dI)) (ci := 0) (v := .ref (ad 17)) (C := RX5) (T := TX5) (N := 28) hx hb hts in_X5 hown hK hP 0 tw_g rfl 17 (by decide) (hts _ q2003) (fun _ h9 => h9) rfl dX5_reach_18 ?_
        refine lv_iload_n hx hb dX5_reach_21 rfl (lv_at hl 1 rfl) ?_
        refine lv_aload_n hx hb dX5_reach_22 rfl (lv_at hl 0 rfl) ?_
        refine va_get (D := (dC, dI)) (ci := 0) (v := .ref (ad 0)) (C := RX5) (T := TX5) (N := 28) hx hb hts in_X5 hown hK hP 0 tw_g rfl 0 (by decide) (hts _ q1986) (fun _ h9 => h9) rfl dX5_reach_23 ?_
        refine lv_bipush (v := 73) hx hb dX5_reach_26 (by decide) ?_
        refine lv_iload_n hx hb dX5_reach_28 rfl (lv_at hl 1 rfl) ?_
        refine lv_iadd hx hb dX5_reach_29 ?_
        obtain ⟨g4, hF⟩ := gd_s hF
        refine va_iald hx hb hK hP 1 0 tw_e0 rfl (inB_in g4) dX5_reach_30 ?_
        obtain ⟨g5, hF⟩ := gd_s hF
        refine va_iast hx hb hK hP hD hS 7 0 tw_e17 rfl (x := ((σ).2 0 ((73 + x1)).toNatClampNeg)) (inB_in g5) dX5_reach_31 (fun H locs hP hD hS => ?_)
        rw [tw_s17] at hP hD
        refine lv_iinc (v := (x1 + 1)) (lv' := [(1, .int (x1 + 1)), (0, .ref m0)]) hx hb dX5_reach_32 hl (k := 1) rfl rfl (by decide) rfl (fun ls hl => ?_)
        refine lv_goto (tgt := 7) hx hb dX5_reach_35 (by decide) ?_
        exact lp1 (tw_sa σ 17 (x1).toNatClampNeg ((σ).2 0 ((73 + x1)).toNatClampNeg)) (x1 + 1) hF _ _ hP hD hS ls (lv_sub hl [1, 0] rfl)
  have lp1 := loop n
  unfold F_reach F_reach_0 at hF
  refine lv_aload_n hx hb dX5_reach_0 rfl (lv_at hl 0 rfl) ?_
  refine lv_iconst (v := 0) hx hb dX5_reach_1 (by decide) ?_
  refine va_put (D := (dC, dI)) (ci := 0) (v := .int 0) (ty := .int) (C := RX5) (T := TX5) (N := 28) hx hb hts in_X5 tyX5 tyX5_ok nmX5 hown hK hP hD hS 0 tw_g rfl 6 (by decide) (hts _ q1992) (fun _ h9 => h9) rfl (tyX5_ok 6 (by decide)) rfl rfl (Nat.le_of_ble_eq_true rfl) dX5_reach_2 (fun H locs hP hD hS => ?_)
  rw [tw_p6] at hP hD
  refine lv_iconst (v := 0) hx hb dX5_reach_5 (by decide) ?_
  refine lv_istore_n (lv' := [(1, .int 0), (0, .ref m0)]) hx hb dX5_reach_6 rfl hl (by decide) rfl (fun ls hl => ?_)
  exact lp1 (tw_sf σ 6 0) 0 hF _ _ hP hD hS ls (lv_sub hl [1, 0] rfl)

def F_reachOf (n : Nat) (σ : Tw) (p1 : Int32) : Option (Int32 × Tw) := bnd (F_isPlace σ p1) (fun r1 u1 => if r1 = 0 then if (((tw_sf u1 6 1)).1 6) ≤ 0 then bnd (F_laysUnit_x n (tw_sf u1 6 1) p1) (fun r4 u4 => bnd (F_reachBy n u4 ) (fun r5 u5 => some (r5, u5))) else some (0, (tw_sf u1 6 1)) else if (((tw_sf u1 6 0)).1 6) ≤ 0 then bnd (F_laysUnit_x n (tw_sf u1 6 0) p1) (fun r7 u7 => bnd (F_reachBy n u7 ) (fun r8 u8 => some (r8, u8))) else some (0, (tw_sf u1 6 0)))
set_option maxHeartbeats 4000000 in
set_option maxRecDepth 100000 in
theorem mt_reachOf (l : Launch) (dC : Nat → ClassId) (dI : Nat → Nat → Nat) (cI cZ : ClassId) (m0 : Nat) (ad : Nat → Nat) (sz : Nat) (σ : Tw) (n : Nat)  (p1 : Int32) (out : Int32 × Tw) (hF : F_reachOf n σ p1 = some out) : Met l yX5_reachOf (ws_ yX5_reachOf cX5_reachOf 2 (some .int)) ({ frames := 5, cells := 0, slots := 0, locals := 117 }) (va_Pc [.ref m0, .int p1] (tw_Pre dC dI cI cZ m0 ad sz σ)) (va_Qi (fun r u => (r, u) = out) (tw_B dC dI cI cZ m0 ad) (tw_A m0 ad sz)) 0 0 (tw_A m0 ad sz) := by
  refine Met.ofW (cc := cX5_reachOf) (maxL := 2) (ret := (some .int)) (by decide +kernel) rfl ?_
  intro p e s m args below meth c s₁ B hml hv
  obtain ⟨rfl, hsz, hP, hK, hD0⟩ := hv
  have hx := B.exec
  have hb := B.bytes
  have hr := B.returns
  have hts := atoms_spec (ws := (ws_ yX5_reachOf cX5_reachOf 2 (some .int))) B.pre
  have hts : ∀ w ∈ lw_all, w.before _ s = true := fun w h => hts w (List.mem_cons_of_mem _ h)
  have hown : s.vm.findClass RX5 = some m.cls := findClass_of_methodNamed B.named
  have hlocks := B.notSynchronized
  subst hsz
  have hD := tw_Ds (z := s.heap.size) hD0
  have hAA := fun z (h : s.heap.size ≤ z) => tw_Am (m0 := m0) (ad := ad) h
  generalize hAe : tw_A m0 ad s.heap.size = A at hD hAA ⊢
  have hS : va_S A s.heap s.heap [] := va_S.rf
  have hP : va_P (dC, dI) vwCl (tw_ws m0 ad cI cZ σ) s.heap := hP
  have hl := lv_entry ([.ref m0, .int p1]) (n := 2) (Nat.le_of_ble_eq_true rfl)
  rw [lg_entry_eq]
  generalize (lg_sl ([.ref m0, .int p1]) ++ List.replicate (2 - (lg_sl ([.ref m0, .int p1])).length) Slot.unset).toArray = ls at hl ⊢
  have hl : lv_has ls 2 [(0, .ref m0), (1, .int p1)] := hl
  unfold F_reachOf at hF
  refine lv_aload_n hx hb dX5_reachOf_0 rfl (lv_at hl 0 rfl) ?_
  refine lv_aload_n hx hb dX5_reachOf_1 rfl (lv_at hl 0 rfl) ?_
  refine lv_iload_n hx hb dX5_reachOf_2 rfl (lv_at hl 1 rfl) ?_
  obtain ⟨r1, u1, e1, hF⟩ := bnd_s hF
  refine tw_calli (va_runV (As := [.int p1]) (rest := [.ref m0]) ⟨hx, hb, hml, hown, hts⟩ (mt_isPlace l dC dI cI cZ m0 ad s.heap.size σ  p1 _ e1) (cwV 1 hts (lw_V q2177 q2179 qs58 q125 q2180) rfl rfl rfl (by decide +kernel) ⟨Nat.le_of_ble_eq_true rfl, Nat.le_of_ble_eq_true rfl⟩) (tw_preV hK hP hD _) rfl rfl hl.1 rfl (lv_room (Nat.le_of_ble_eq_true rfl)) dX5_reachOf_3 ⟨Nat.le_of_ble_eq_true rfl, Nat.le_of_ble_eq_true rfl⟩) hS hD hAA (fun rr uu H locs hw hP hD hS => ?_)
  obtain rfl : r1 = rr := (congrArg Prod.fst hw).symm
  obtain rfl : u1 = uu := (congrArg Prod.snd hw).symm
  refine lv_if_eq (tgt := 13) hx hb dX5_reachOf_6 (by decide) (fun c2 => ?_) (fun c2 => ?_)
  · replace hF := it_t c2 hF
    refine lv_iconst (v := 1) hx hb dX5_reachOf_13 (by decide) ?_
    refine va_put (D := (dC, dI)) (ci := 0) (v := .int 1) (ty := .int) (C := RX5) (T := TX5) (N := 28) hx hb hts in_X5 tyX5 tyX5_ok nmX5 hown hK hP hD hS 0 tw_g rfl 6 (by decide) (hts _ q1992) (fun _ h9 => h9) rfl (tyX5_ok 6 (by decide)) rfl rfl (Nat.le_of_ble_eq_true rfl) dX5_reachOf_14 (fun H locs hP hD hS => ?_)
    rw [tw_p6] at hP hD
    refine lv_aload_n hx hb dX5_reachOf_17 rfl (lv_at hl 0 rfl) ?_
    refine va_get (D := (dC, dI)) (ci := 0) (v := .int (((tw_sf u1 6 1)).1 6)) (C := RX5) (T := TX5) (N := 28) hx hb hts in_X5 hown hK hP 0 tw_g rfl 6 (by decide) (hts _ q1992) (fun _ h9 => h9) rfl dX5_reachOf_18 ?_
    refine lv_if_le (tgt := 26) hx hb dX5_reachOf_21 (by decide) (fun c3 => ?_) (fun c3 => ?_)
    · replace hF := it_t c3 hF
      refine lv_aload_n hx hb dX5_reachOf_26 rfl (lv_at hl 0 rfl) ?_
      refine lv_iload_n hx hb dX5_reachOf_27 rfl (lv_at hl 1 rfl) ?_
      refine lv_aload_n hx hb dX5_reachOf_28 rfl (lv_at hl 0 rfl) ?_
      refine va_get (D := (dC, dI)) (ci := 0) (v := .ref (ad 17)) (C := RX5) (T := TX5) (N := 28) hx hb hts in_X5 hown hK hP 0 tw_g rfl 17 (by decide) (hts _ q2003) (fun _ h9 => h9) rfl dX5_reachOf_29 ?_
      obtain ⟨r4, u4, e4, hF⟩ := bnd_s hF
      refine tw_callv (va_runV (As := [.int p1, .ref (ad 17)]) (rest := []) ⟨hx, hb, hml, hown, hts⟩ (mt_laysUnit_x l dC dI cI cZ m0 ad H.size (tw_sf u1 6 1) n  p1 _ e4) (cwV 2 hts (lw_V q2292 q2294 qs79 q125 q2295) rfl rfl rfl (by decide +kernel) ⟨Nat.le_of_ble_eq_true rfl, Nat.le_of_ble_eq_true rfl⟩) (tw_preV hK hP hD _) rfl rfl hl.1 rfl (lv_room (Nat.le_of_ble_eq_true rfl)) dX5_reachOf_32 ⟨Nat.le_of_ble_eq_true rfl, Nat.le_of_ble_eq_true rfl⟩) hS hD hAA (fun uu H locs hw hP hD hS => ?_)
      obtain rfl : u4 = uu := (congrArg Prod.snd hw).symm
      refine lv_aload_n hx hb dX5_reachOf_35 rfl (lv_at hl 0 rfl) ?_
      obtain ⟨r5, u5, e5, hF⟩ := bnd_s hF
      refine tw_calli (va_runV (As := []) (rest := []) ⟨hx, hb, hml, hown, hts⟩ (mt_reachBy l dC dI cI cZ m0 ad H.size u4 n   _ e5) (cwV 0 hts (lw_V q2444 q2446 qs96 q125 q2447) rfl rfl rfl (by decide +kernel) ⟨Nat.le_of_ble_eq_true rfl, Nat.le_of_ble_eq_true rfl⟩) (tw_preV hK hP hD _) rfl rfl hl.1 rfl (lv_room (Nat.le_of_ble_eq_true rfl)) dX5_reachOf_36 ⟨Nat.le_of_ble_eq_true rfl, Nat.le_of_ble_eq_true rfl⟩) hS hD hAA (fun rr uu H locs hw hP hD hS => ?_)
      obtain rfl : r5 = rr := (congrArg Prod.fst hw).symm
      obtain rfl : u5 = uu := (congrArg Prod.snd hw).symm
      exact W.iret (v := r5) hx hb hr (fun t ht hW => ⟨⟨r5, u5, rfl, Option.some.inj hF, by rw [ht]; exact hP, va_K.moved hW.alike hK⟩, hS.F ht⟩) hS.2.2 dX5_reachOf_39
    · replace hF := it_f c3 hF
      refine lv_iconst (v := 0) hx hb dX5_reachOf_24 (by decide) ?_
      exact W.iret (v := 0) hx hb hr (fun t ht hW => ⟨⟨0, (tw_sf u1 6 1), rfl, Option.some.inj hF, by rw [ht]; exact hP, va_K.moved hW.alike hK⟩, hS.F ht⟩) hS.2.2 dX5_reachOf_25
  · replace hF := it_f c2 hF
    refine lv_iconst (v := 0) hx hb dX5_reachOf_9 (by decide) ?_
    refine lv_goto (tgt := 14) hx hb dX5_reachOf_10 (by decide) ?_
    refine va_put (D := (dC, dI)) (ci := 0) (v := .int 0) (ty := .int) (C := RX5) (T := TX5) (N := 28) hx hb hts in_X5 tyX5 tyX5_ok nmX5 hown hK hP hD hS 0 tw_g rfl 6 (by decide) (hts _ q1992) (fun _ h9 => h9) rfl (tyX5_ok 6 (by decide)) rfl rfl (Nat.le_of_ble_eq_true rfl) dX5_reachOf_14 (fun H locs hP hD hS => ?_)
    rw [tw_p6] at hP hD
    refine lv_aload_n hx hb dX5_reachOf_17 rfl (lv_at hl 0 rfl) ?_
    refine va_get (D := (dC, dI)) (ci := 0) (v := .int (((tw_sf u1 6 0)).1 6)) (C := RX5) (T := TX5) (N := 28) hx hb hts in_X5 hown hK hP 0 tw_g rfl 6 (by decide) (hts _ q1992) (fun _ h9 => h9) rfl dX5_reachOf_18 ?_
    refine lv_if_le (tgt := 26) hx hb dX5_reachOf_21 (by decide) (fun c6 => ?_) (fun c6 => ?_)
    · replace hF := it_t c6 hF
      refine lv_aload_n hx hb dX5_reachOf_26 rfl (lv_at hl 0 rfl) ?_
      refine lv_iload_n hx hb dX5_reachOf_27 rfl (lv_at hl 1 rfl) ?_
      refine lv_aload_n hx hb dX5_reachOf_28 rfl (lv_at hl 0 rfl) ?_
      refine va_get (D := (dC, dI)) (ci := 0) (v := .ref (ad 17)) (C := RX5) (T := TX5) (N := 28) hx hb hts in_X5 hown hK hP 0 tw_g rfl 17 (by decide) (hts _ q2003) (fun _ h9 => h9) rfl dX5_reachOf_29 ?_
      obtain ⟨r7, u7, e7, hF⟩ := bnd_s hF
      refine tw_callv (va_runV (As := [.int p1, .ref (ad 17)]) (rest := []) ⟨hx, hb, hml, hown, hts⟩ (mt_laysUnit_x l dC dI cI cZ m0 ad H.size (tw_sf u1 6 0) n  p1 _ e7) (cwV 2 hts (lw_V q2292 q2294 qs79 q125 q2295) rfl rfl rfl (by decide +kernel) ⟨Nat.le_of_ble_eq_true rfl, Nat.le_of_ble_eq_true rfl⟩) (tw_preV hK hP hD _) rfl rfl hl.1 rfl (lv_room (Nat.le_of_ble_eq_true rfl)) dX5_reachOf_32 ⟨Nat.le_of_ble_eq_true rfl, Nat.le_of_ble_eq_true rfl⟩) hS hD hAA (fun uu H locs hw hP hD hS => ?_)
      obtain rfl : u7 = uu := (congrArg Prod.snd hw).symm
      refine lv_aload_n hx hb dX5_reachOf_35 rfl (lv_at hl 0 rfl) ?_
      obtain ⟨r8, u8, e8, hF⟩ := bnd_s hF
      refine tw_calli (va_runV (As := []) (rest := []) ⟨hx, hb, hml, hown, hts⟩ (mt_reachBy l dC dI cI cZ m0 ad H.size u7 n   _ e8) (cwV 0 hts (lw_V q2444 q2446 qs96 q125 q2447) rfl rfl rfl (by decide +kernel) ⟨Nat.le_of_ble_eq_true rfl, Nat.le_of_ble_eq_true rfl⟩) (tw_preV hK hP hD _) rfl rfl hl.1 rfl (lv_room (Nat.le_of_ble_eq_true rfl)) dX5_reachOf_36 ⟨Nat.le_of_ble_eq_true rfl, Nat.le_of_ble_eq_true rfl⟩) hS hD hAA (fun rr uu H locs hw hP hD hS => ?_)
      obtain rfl : r8 = rr := (congrArg Prod.fst hw).symm
      obtain rfl : u8 = uu := (congrArg Prod.snd hw).symm
      exact W.iret (v := r8) hx hb hr (fun t ht hW => ⟨⟨r8, u8, rfl, Option.some.inj hF, by rw [ht]; exact hP, va_K.moved hW.alike hK⟩, hS.F ht⟩) hS.2.2 dX5_reachOf_39
    · replace hF := it_f c6 hF
      refine lv_iconst (v := 0) hx hb dX5_reachOf_24 (by decide) ?_
      exact W.iret (v := 0) hx hb hr (fun t ht hW => ⟨⟨0, (tw_sf u1 6 0), rfl, Option.some.inj hF, by rw [ht]; exact hP, va_K.moved hW.alike hK⟩, hS.F ht⟩) hS.2.2 dX5_reachOf_25

def F_isClosed (σ : Tw) : Option (Int32 × Tw) := gd (inB 6 162) (if ((σ).2 0 (6 : Int32).toNatClampNeg) ≤ 0 then some (0, σ) else gd (inB 89 162) (if ((σ).2 0 (89 : Int32).toNatClampNeg) = 1 then some (1, σ) else some (0, σ)))
set_option maxHeartbeats 4000000 in
set_option maxRecDepth 100000 in
theorem mt_isClosed (l : Launch) (dC : Nat → ClassId) (dI : Nat → Nat → Nat) (cI cZ : ClassId) (m0 : Nat) (ad : Nat → Nat) (sz : Nat) (σ : Tw)  (out : Int32 × Tw) (hF : F_isClosed σ  = some out) : Met l yX5_isClosed (ws_ yX5_isClosed cX5_isClosed 1 (some .boolean)) ({ frames := 0, cells := 0, slots := 0, locals := 0 }) (va_Pc [.ref m0] (tw_Pre dC dI cI cZ m0 ad sz σ)) (va_Qi (fun r u => (r, u) = out) (tw_B dC dI cI cZ m0 ad) (tw_A m0 ad sz)) 0 0 (tw_A m0 ad sz) := by
  refine Met.ofW (cc := cX5_isClosed) (maxL := 1) (ret := (some .boolean)) (by decide +kernel) rfl ?_
  intro p e s m args below meth c s₁ B hml hv
  obtain ⟨rfl, hsz, hP, hK, hD0⟩ := hv
  have hx := B.exec
  have hb := B.bytes
  have hr := B.returns
  have hts := atoms_spec (ws := (ws_ yX5_isClosed cX5_isClosed 1 (some .boolean))) B.pre
  have hts : ∀ w ∈ lw_all, w.before _ s = true := fun w h => hts w (List.mem_cons_of_mem _ h)
  have hown : s.vm.findClass RX5 = some m.cls := findClass_of_methodNamed B.named
  have hlocks := B.notSynchronized
  subst hsz
  have hD := tw_Ds (z := s.heap.size) hD0
  have hAA := fun z (h : s.heap.size ≤ z) => tw_Am (m0 := m0) (ad := ad) h
  generalize hAe : tw_A m0 ad s.heap.size = A at hD hAA ⊢
  have hS : va_S A s.heap s.heap [] := va_S.rf
  have hP : va_P (dC, dI) vwCl (tw_ws m0 ad cI cZ σ) s.heap := hP
  have hl := lv_entry ([.ref m0]) (n := 1) (Nat.le_of_ble_eq_true rfl)
  rw [lg_entry_eq]
  generalize (lg_sl ([.ref m0]) ++ List.replicate (1 - (lg_sl ([.ref m0])).length) Slot.unset).toArray = ls at hl ⊢
  have hl : lv_has ls 1 [(0, .ref m0)] := hl
  unfold F_isClosed at hF
  refine lv_aload_n hx hb dX5_isClosed_0 rfl (lv_at hl 0 rfl) ?_
  refine va_get (D := (dC, dI)) (ci := 0) (v := .ref (ad 0)) (C := RX5) (T := TX5) (N := 28) hx hb hts in_X5 hown hK hP 0 tw_g rfl 0 (by decide) (hts _ q1986) (fun _ h9 => h9) rfl dX5_isClosed_1 ?_
  refine lv_bipush (v := 6) hx hb dX5_isClosed_4 (by decide) ?_
  obtain ⟨g1, hF⟩ := gd_s hF
  refine va_iald hx hb hK hP 1 0 tw_e0 rfl (inB_in g1) dX5_isClosed_6 ?_
  refine lv_if_le (tgt := 25) hx hb dX5_isClosed_7 (by decide) (fun c2 => ?_) (fun c2 => ?_)
  · replace hF := it_t c2 hF
    refine lv_iconst (v := 0) hx hb dX5_isClosed_25 (by decide) ?_
    exact W.zret (v := 0) hx hb hr rfl (fun t ht hW => ⟨⟨0, σ, rfl, Option.some.inj hF, by rw [ht]; exact hP, va_K.moved hW.alike hK⟩, hS.F ht⟩) hS.2.2 dX5_isClosed_26
  · replace hF := it_f c2 hF
    refine lv_aload_n hx hb dX5_isClosed_10 rfl (lv_at hl 0 rfl) ?_
    refine va_get (D := (dC, dI)) (ci := 0) (v := .ref (ad 0)) (C := RX5) (T := TX5) (N := 28) hx hb hts in_X5 hown hK hP 0 tw_g rfl 0 (by decide) (hts _ q1986) (fun _ h9 => h9) rfl dX5_isClosed_11 ?_
    refine lv_bipush (v := 89) hx hb dX5_isClosed_14 (by decide) ?_
    obtain ⟨g3, hF⟩ := gd_s hF
    refine va_iald hx hb hK hP 1 0 tw_e0 rfl (inB_in g3) dX5_isClosed_16 ?_
    refine lv_iconst (v := 1) hx hb dX5_isClosed_17 (by decide) ?_
    refine lv_icmp_ne (tgt := 25) hx hb dX5_isClosed_18 (by decide) (fun c4 => ?_) (fun c4 => ?_)
    · replace hF := it_f c4 hF
      refine lv_iconst (v := 0) hx hb dX5_isClosed_25 (by decide) ?_
      exact W.zret (v := 0) hx hb hr rfl (fun t ht hW => ⟨⟨0, σ, rfl, Option.some.inj hF, by rw [ht]; exact hP, va_K.moved hW.alike hK⟩, hS.F ht⟩) hS.2.2 dX5_isClosed_26
    · replace hF := it_t c4 hF
      refine lv_iconst (v := 1) hx hb dX5_isClosed_21 (by decide) ?_
      refine lv_goto (tgt := 26) hx hb dX5_isClosed_22 (by decide) ?_
      exact W.zret (v := 1) hx hb hr rfl (fun t ht hW => ⟨⟨1, σ, rfl, Option.some.inj hF, by rw [ht]; exact hP, va_K.moved hW.alike hK⟩, hS.F ht⟩) hS.2.2 dX5_isClosed_26

def F_solves (n : Nat) (σ : Tw) : Option (Int32 × Tw) := bnd (F_directionsOf n σ 0) (fun r1 u1 => bnd (F_laysProjected n u1 r1) (fun r2 u2 => bnd (F_ranks n u2 r1 r1) (fun r3 u3 => if (((tw_sf u3 20 r3)).1 25) = 0 then some (0, (tw_sf u3 20 r3)) else some (1, (tw_sf u3 20 r3)))))
set_option maxHeartbeats 4000000 in
set_option maxRecDepth 100000 in
theorem mt_solves (l : Launch) (dC : Nat → ClassId) (dI : Nat → Nat → Nat) (cI cZ : ClassId) (m0 : Nat) (ad : Nat → Nat) (sz : Nat) (σ : Tw) (n : Nat)  (out : Int32 × Tw) (hF : F_solves n σ  = some out) : Met l yX5_solves (ws_ yX5_solves cX5_solves 2 (some .boolean)) ({ frames := 7, cells := 0, slots := 0, locals := 157 }) (va_Pc [.ref m0] (tw_Pre dC dI cI cZ m0 ad sz σ)) (va_Qi (fun r u => (r, u) = out) (tw_B dC dI cI cZ m0 ad) (tw_A m0 ad sz)) 0 0 (tw_A m0 ad sz) := by
  refine Met.ofW (cc := cX5_solves) (maxL := 2) (ret := (some .boolean)) (by decide +kernel) rfl ?_
  intro p e s m args below meth c s₁ B hml hv
  obtain ⟨rfl, hsz, hP, hK, hD0⟩ := hv
  have hx := B.exec
  have hb := B.bytes
  have hr := B.returns
  have hts := atoms_spec (ws := (ws_ yX5_solves cX5_solves 2 (some .boolean))) B.pre
  have hts : ∀ w ∈ lw_all, w.before _ s = true := fun w h => hts w (List.mem_cons_of_mem _ h)
  have hown : s.vm.findClass RX5 = some m.cls := findClass_of_methodNamed B.named
  have hlocks := B.notSynchronized
  subst hsz
  have hD := tw_Ds (z := s.heap.size) hD0
  have hAA := fun z (h : s.heap.size ≤ z) => tw_Am (m0 := m0) (ad := ad) h
  generalize hAe : tw_A m0 ad s.heap.size = A at hD hAA ⊢
  have hS : va_S A s.heap s.heap [] := va_S.rf
  have hP : va_P (dC, dI) vwCl (tw_ws m0 ad cI cZ σ) s.heap := hP
  have hl := lv_entry ([.ref m0]) (n := 2) (Nat.le_of_ble_eq_true rfl)
  rw [lg_entry_eq]
  generalize (lg_sl ([.ref m0]) ++ List.replicate (2 - (lg_sl ([.ref m0])).length) Slot.unset).toArray = ls at hl ⊢
  have hl : lv_has ls 2 [(0, .ref m0)] := hl
  unfold F_solves at hF
  refine lv_aload_n hx hb dX5_solves_0 rfl (lv_at hl 0 rfl) ?_
  refine lv_iconst (v := 0) hx hb dX5_solves_1 (by decide) ?_
  obtain ⟨r1, u1, e1, hF⟩ := bnd_s hF
  refine tw_calli (va_runV (As := [.int 0]) (rest := []) ⟨hx, hb, hml, hown, hts⟩ (mt_directionsOf l dC dI cI cZ m0 ad s.heap.size σ n  0 _ e1) (cwV 1 hts (lw_V q2229 q2231 qs64 q125 q2232) rfl rfl rfl (by decide +kernel) ⟨Nat.le_of_ble_eq_true rfl, Nat.le_of_ble_eq_true rfl⟩) (tw_preV hK hP hD _) rfl rfl hl.1 rfl (lv_room (Nat.le_of_ble_eq_true rfl)) dX5_solves_2 ⟨Nat.le_of_ble_eq_true rfl, Nat.le_of_ble_eq_true rfl⟩) hS hD hAA (fun rr uu H locs hw hP hD hS => ?_)
  obtain rfl : r1 = rr := (congrArg Prod.fst hw).symm
  obtain rfl : u1 = uu := (congrArg Prod.snd hw).symm
  refine lv_istore_n (lv' := [(1, .int r1), (0, .ref m0)]) hx hb dX5_solves_5 rfl hl (by decide) rfl (fun ls hl => ?_)
  refine lv_aload_n hx hb dX5_solves_6 rfl (lv_at hl 1 rfl) ?_
  refine lv_iload_n hx hb dX5_solves_7 rfl (lv_at hl 0 rfl) ?_
  obtain ⟨r2, u2, e2, hF⟩ := bnd_s hF
  refine tw_callv (va_runV (As := [.int r1]) (rest := []) ⟨hx, hb, hml, hown, hts⟩ (mt_laysProjected l dC dI cI cZ m0 ad H.size u1 n  r1 _ e2) (cwV 1 hts (lw_V q2412 q2414 qs94 q125 q2415) rfl rfl rfl (by decide +kernel) ⟨Nat.le_of_ble_eq_true rfl, Nat.le_of_ble_eq_true rfl⟩) (tw_preV hK hP hD _) rfl rfl hl.1 rfl (lv_room (Nat.le_of_ble_eq_true rfl)) dX5_solves_8 ⟨Nat.le_of_ble_eq_true rfl, Nat.le_of_ble_eq_true rfl⟩) hS hD hAA (fun uu H locs hw hP hD hS => ?_)
  obtain rfl : u2 = uu := (congrArg Prod.snd hw).symm
  refine lv_aload_n hx hb dX5_solves_11 rfl (lv_at hl 1 rfl) ?_
  refine lv_aload_n hx hb dX5_solves_12 rfl (lv_at hl 1 rfl) ?_
  refine lv_iload_n hx hb dX5_solves_13 rfl (lv_at hl 0 rfl) ?_
  refine lv_iload_n hx hb dX5_solves_14 rfl (lv_at hl 0 rfl) ?_
  obtain ⟨r3, u3, e3, hF⟩ := bnd_s hF
  refine tw_calli (va_runV (As := [.int r1, .int r1]) (rest := [.ref m0]) ⟨hx, hb, hml, hown, hts⟩ (mt_ranks l dC dI cI cZ m0 ad H.size u2 n  r1 r1 _ e3) (cwV 2 hts (lw_V q2384 q2386 qs90 q125 q2387) rfl rfl rfl (by decide +kernel) ⟨Nat.le_of_ble_eq_true rfl, Nat.le_of_ble_eq_true rfl⟩) (tw_preV hK hP hD _) rfl rfl hl.1 rfl (lv_room (Nat.le_of_ble_eq_true rfl)) dX5_solves_15 ⟨Nat.le_of_ble_eq_true rfl, Nat.le_of_ble_eq_true rfl⟩) hS hD hAA (fun rr uu H locs hw hP hD hS => ?_)
  obtain rfl : r3 = rr := (congrArg Prod.fst hw).symm
  obtain rfl : u3 = uu := (congrArg Prod.snd hw).symm
  refine va_put (D := (dC, dI)) (ci := 0) (v := .int r3) (ty := .int) (C := RX5) (T := TX5) (N := 28) hx hb hts in_X5 tyX5 tyX5_ok nmX5 hown hK hP hD hS 0 tw_g rfl 20 (by decide) (hts _ q2006) (fun _ h9 => h9) rfl (tyX5_ok 20 (by decide)) rfl rfl (Nat.le_of_ble_eq_true rfl) dX5_solves_18 (fun H locs hP hD hS => ?_)
  rw [tw_p20] at hP hD
  refine lv_aload_n hx hb dX5_solves_21 rfl (lv_at hl 1 rfl) ?_
  refine va_get (D := (dC, dI)) (ci := 0) (v := .int (((tw_sf u3 20 r3)).1 25)) (C := RX5) (T := TX5) (N := 28) hx hb hts in_X5 hown hK hP 0 tw_g rfl 25 (by decide) (hts _ q2011) (fun _ h9 => h9) rfl dX5_solves_22 ?_
  refine lv_if_eq (tgt := 32) hx hb dX5_solves_25 (by decide) (fun c4 => ?_) (fun c4 => ?_)
  · replace hF := it_t c4 hF
    refine lv_iconst (v := 0) hx hb dX5_solves_32 (by decide) ?_
    exact W.zret (v := 0) hx hb hr rfl (fun t ht hW => ⟨⟨0, (tw_sf u3 20 r3), rfl, Option.some.inj hF, by rw [ht]; exact hP, va_K.moved hW.alike hK⟩, hS.F ht⟩) hS.2.2 dX5_solves_33
  · replace hF := it_f c4 hF
    refine lv_iconst (v := 1) hx hb dX5_solves_28 (by decide) ?_
    refine lv_goto (tgt := 33) hx hb dX5_solves_29 (by decide) ?_
    exact W.zret (v := 1) hx hb hr rfl (fun t ht hW => ⟨⟨1, (tw_sf u3 20 r3), rfl, Option.some.inj hF, by rw [ht]; exact hP, va_K.moved hW.alike hK⟩, hS.F ht⟩) hS.2.2 dX5_solves_33

def F_solution_1 (R : Nat → Tw → Int32 → Int32 → Int32 → Int32 → Option (Int32 × Tw)) (n : Nat) (σ : Tw) (x1 : Int32) (x2 : Int32) (x3 : Int32) (x4 : Int32) : Option (Int32 × Tw) := if x2 ≤ x4 then bnd (F_mod σ x3) (fun r16 u16 => some (r16, u16)) else gd (inB ((9 * x4) + x2) 72) (bnd (F_wayOf σ x4 x1) (fun r18 u18 => R 1 u18 x1 x2 (x3 + (((σ).2 24 (((9 * x4) + x2)).toNatClampNeg) * r18)) (x4 + 1)))
def F_solution_r : Nat → Nat → Tw → Int32 → Int32 → Int32 → Int32 → Option (Int32 × Tw)
  | 0 => fun _ _ _ _ _ _ => none
  | n + 1 => fun k => match k with  | _ => F_solution_1 (F_solution_r n) n
def F_solution_0 (R : Nat → Tw → Int32 → Int32 → Int32 → Int32 → Option (Int32 × Tw)) (n : Nat) (σ : Tw) (p1 : Int32) : Option (Int32 × Tw) := bnd (F_isPlace σ p1) (fun r1 u1 => if r1 = 0 then if (((tw_sf u1 6 1)).1 6) ≤ 0 then bnd (F_directionsOf n (tw_sf u1 6 1) 0) (fun r14 u14 => R 1 u14 p1 r14 0 0) else some (0, (tw_sf u1 6 1)) else bnd (F_isClosed u1 ) (fun r3 u3 => if r3 = 0 then if (((tw_sf u3 6 2)).1 6) ≤ 0 then bnd (F_directionsOf n (tw_sf u3 6 2) 0) (fun r12 u12 => R 1 u12 p1 r12 0 0) else some (0, (tw_sf u3 6 2)) else bnd (F_solves n u3 ) (fun r5 u5 => if r5 = 0 then if (((tw_sf u5 6 3)).1 6) ≤ 0 then bnd (F_directionsOf n (tw_sf u5 6 3) 0) (fun r8 u8 => R 1 u8 p1 r8 0 0) else some (0, (tw_sf u5 6 3)) else if (((tw_sf u5 6 0)).1 6) ≤ 0 then bnd (F_directionsOf n (tw_sf u5 6 0) 0) (fun r10 u10 => R 1 u10 p1 r10 0 0) else some (0, (tw_sf u5 6 0)))))
def F_solution (n : Nat) (σ : Tw) (p1 : Int32) : Option (Int32 × Tw) := F_solution_0 (F_solution_r n) n σ p1
set_option maxHeartbeats 4000000 in
set_option maxRecDepth 100000 in
theorem mt_solution (l : Launch) (dC : Nat → ClassId) (dI : Nat → Nat → Nat) (cI cZ : ClassId) (m0 : Nat) (ad : Nat → Nat) (sz : Nat) (σ : Tw) (n : Nat)  (p1 : Int32) (out : Int32 × Tw) (hF : F_solution n σ p1 = some out) : Met l yX5_solution (ws_ yX5_solution cX5_solution 5 (some .int)) ({ frames := 8, cells := 0, slots := 0, locals := 178 }) (va_Pc [.ref m0, .int p1] (tw_Pre dC dI cI cZ m0 ad sz σ)) (va_Qi (fun r u => (r, u) = out) (tw_B dC dI cI cZ m0 ad) (tw_A m0 ad sz)) 0 0 (tw_A m0 ad sz) := by
  refine Met.ofW (cc := cX5_solution) (maxL := 5) (ret := (some .int)) (by decide +kernel) rfl ?_
  intro p e s m args below meth c s₁ B hml hv
  obtain ⟨rfl, hsz, hP, hK, hD0⟩ := hv
  have hx := B.exec
  have hb := B.bytes
  have hr := B.returns
  have hts := atoms_spec (ws := (ws_ yX5_solution cX5_solution 5 (some .int))) B.pre
  have hts : ∀ w ∈ lw_all, w.before _ s = true := fun w h => hts w (List.mem_cons_of_mem _ h)
  have hown : s.vm.findClass RX5 = some m.cls := findClass_of_methodNamed B.named
  have hlocks := B.notSynchronized
  subst hsz
  have hD := tw_Ds (z := s.heap.size) hD0
  have hAA := fun z (h : s.heap.size ≤ z) => tw_Am (m0 := m0) (ad := ad) h
  generalize hAe : tw_A m0 ad s.heap.size = A at hD hAA ⊢
  have hS : va_S A s.heap s.heap [] := va_S.rf
  have hP : va_P (dC, dI) vwCl (tw_ws m0 ad cI cZ σ) s.heap := hP
  have hl := lv_entry ([.ref m0, .int p1]) (n := 5) (Nat.le_of_ble_eq_true rfl)
  rw [lg_entry_eq]
  generalize (lg_sl ([.ref m0, .int p1]) ++ List.replicate (5 - (lg_sl ([.ref m0, .int p1])).length) Slot.unset).toArray = ls at hl ⊢
  have hl : lv_has ls 5 [(0, .ref m0), (1, .int p1)] := hl
  have loop : ∀ n : Nat, (∀ (σ : Tw) (x1 x2 x3 x4 : Int32), F_solution_r n 1 σ x1 x2 x3 x4 = some out → ∀ (H : Heap) (locs : List Loc), va_P (dC, dI) vwCl (tw_ws m0 ad cI cZ σ) H → va_D A (tw_ws m0 ad cI cZ σ) → va_S A s.heap H locs → ∀ ls : Array Slot, lv_has ls 5 [(0, .ref m0), (1, .int x1), (2, .int x2), (3, .int x3), (4, .int x4)] → W p l e (headSpec (ws_ yX5_solution cX5_solution 5 (some .int)) ({ frames := 8, cells := 0, slots := 0, locals := 178 })).room s m ([.ref m0, .int p1] : List Value).toArray below meth c H locs 0 0 (MQ below (va_Qi (fun r u => (r, u) = out) (tw_B dC dI cI cZ m0 ad) A) ([.ref m0, .int p1] : List Value).toArray s 0 0 A) (F0 m 59 ls [])) := by
    intro n
    induction n with
    | zero => exact (fun _ _ _ _ _ h => nomatch h)
    | succ n ih =>
      have lp1 := ih
      intro σ x1 x2 x3 x4 hF H locs hP hD hS ls hl
      replace hF : F_solution_1 (F_solution_r n) n σ x1 x2 x3 x4 = some out := hF
      unfold F_solution_1 at hF
      refine lv_iload hx hb dX5_solution_59 (lv_at hl 4 rfl) ?_
      refine lv_iload_n hx hb dX5_solution_61 rfl (lv_at hl 2 rfl) ?_
      refine lv_icmp_ge (tgt := 94) hx hb dX5_solution_62 (by decide) (fun c15 => ?_) (fun c15 => ?_)
      · replace hF := it_t c15 hF
        refine lv_aload_n hx hb dX5_solution_94 rfl (lv_at hl 0 rfl) ?_
        refine lv_iload_n hx hb dX5_solution_95 rfl (lv_at hl 3 rfl) ?_
        obtain ⟨r16, u16, e16, hF⟩ := bnd_s hF
        refine tw_calli (va_runV (As := [.int x3]) (rest := []) ⟨hx, hb, hml, hown, hts⟩ (mt_mod l dC dI cI cZ m0 ad H.size σ  x3 _ e16) (cwV 1 hts (lw_V q2253 q2255 qs70 q125 q2256) rfl rfl rfl (by decide +kernel) ⟨Nat.le_of_ble_eq_true rfl, Nat.le_of_ble_eq_true rfl⟩) (tw_preV hK hP hD _) rfl rfl hl.1 rfl (lv_room (Nat.le_of_ble_eq_true rfl)) dX5_solution_96 ⟨Nat.le_of_ble_eq_true rfl, Nat.le_of_ble_eq_true rfl⟩) hS hD hAA (fun rr uu H locs hw hP hD hS => ?_)
        obtain rfl : r16 = rr := (congrArg Prod.fst hw).symm
        obtain rfl : u16 = uu := (congrArg Prod.snd hw).symm
        exact W.iret (v := r16) hx hb hr (fun t ht hW => ⟨⟨r16, u16, rfl, Option.some.inj hF, by rw [ht]; exact hP, va_K.moved hW.alike hK⟩, hS.F ht⟩) hS.2.2 dX5_solution_99
      · replace hF := it_f c15 hF
        refine lv_iload_n hx hb dX5_solution_65 rfl (lv_at hl 3 rfl) ?_
        refine lv_aload_n hx hb dX5_solution_66 rfl (lv_at hl 0 rfl) ?_
        refine va_get (D := (dC, dI)) (ci := 0) (v := .ref (ad 24)) (C := RX5) (T := TX5) (N := 28) hx hb hts in_X5 hown hK hP 0 tw_g rfl 24 (by decide) (hts _ q2010) (fun _ h9 => h9) rfl dX5_solution_67 ?_
        refine lv_bipush (v := 9) hx hb dX5_solution_70 (by decide) ?_
        refine lv_iload hx hb dX5_solution_72 (lv_at hl 4 rfl) ?_
        refine lv_imul hx hb dX5_solution_74 ?_
        refine lv_iload_n hx hb dX5_solution_75 rfl (lv_at hl 2 rfl) ?_
        refine lv_iadd hx hb dX5_solution_76 ?_
        obtain ⟨g17, hF⟩ := gd_s hF
        refine va_iald hx hb hK hP 13 0 tw_e24 rfl (inB_in g17) dX5_solution_77 ?_
        refine lv_aload_n hx hb dX5_solution_78 rfl (lv_at hl 0 rfl) ?_
        refine lv_iload hx hb dX5_solution_79 (lv_at hl 4 rfl) ?_
        refine lv_iload_n hx hb dX5_solution_81 rfl (lv_at hl 1 rfl) ?_
        obtain ⟨r18, u18, e18, hF⟩ := bnd_s hF
        refine tw_calli (va_runV (As := [.int x4, .int x1]) (rest := [.int ((σ).2 24 (((9 * x4) + x2)).toNatClampNeg), .int x3]) ⟨hx, hb, hml, hown, hts⟩ (mt_wayOf l dC dI cI cZ m0 ad H.size σ  x4 x1 _ e18) (cwV 2 hts (lw_V q2245 q2247 qs68 q125 q2248) rfl rfl rfl (by decide +kernel) ⟨Nat.le_of_ble_eq_true rfl, Nat.le_of_ble_eq_true rfl⟩) (tw_preV hK hP hD _) rfl rfl hl.1 rfl (lv_room (Nat.le_of_ble_eq_true rfl)) dX5_solution_82 ⟨Nat.le_of_ble_eq_true rfl, Nat.le_of_ble_eq_true rfl⟩) hS hD hAA (fun rr uu H locs hw hP hD hS => ?_)
        obtain rfl : r18 = rr := (congrArg Prod.fst hw).symm
        obtain rfl : u18 = uu := (congrArg Prod.snd hw).symm
        refine lv_imul hx hb dX5_solution_85 ?_
        refine lv_iadd hx hb dX5_solution_86 ?_
        refine lv_istore_n (lv' := [(3, .int (x3 + (((σ).2 24 (((9 * x4) + x2)).toNatClampNeg) * r18))), (0, .ref m0), (1, .int x1), (2, .int x2), (4, .int x4)]) hx hb dX5_solution_87 rfl hl (by decide) rfl (fun ls hl => ?_)
        refine lv_iinc (v := (x4 + 1)) (lv' := [(4, .int (x4 + 1)), (3, .int (x3 + (((σ).2 24 (((9 * x4) + x2)).toNatClampNeg) * r18))), (0, .ref m0), (1, .int x1), (2, .int x2)]) hx hb dX5_solution_88 hl (k := 4) rfl rfl (by decide) rfl (fun ls hl => ?_)
        refine lv_goto (tgt := 59) hx hb dX5_solution_91 (by decide) ?_
        exact lp1 u18 x1 x2 (x3 + (((σ).2 24 (((9 * x4) + x2)).toNatClampNeg) * r18)) (x4 + 1) hF _ _ hP hD hS ls (lv_sub hl [2, 3, 4, 1, 0] rfl)
  have lp1 := loop n
  unfold F_solution F_solution_0 at hF
  refine lv_aload_n hx hb dX5_solution_0 rfl (lv_at hl 0 rfl) ?_
  refine lv_aload_n hx hb dX5_solution_1 rfl (lv_at hl 0 rfl) ?_
  refine lv_iload_n hx hb dX5_solution_2 rfl (lv_at hl 1 rfl) ?_
  obtain ⟨r1, u1, e1, hF⟩ := bnd_s hF
  refine tw_calli (va_runV (As := [.int p1]) (rest := [.ref m0]) ⟨hx, hb, hml, hown, hts⟩ (mt_isPlace l dC dI cI cZ m0 ad s.heap.size σ  p1 _ e1) (cwV 1 hts (lw_V q2177 q2179 qs58 q125 q2180) rfl rfl rfl (by decide +kernel) ⟨Nat.le_of_ble_eq_true rfl, Nat.le_of_ble_eq_true rfl⟩) (tw_preV hK hP hD _) rfl rfl hl.1 rfl (lv_room (Nat.le_of_ble_eq_true rfl)) dX5_solution_3 ⟨Nat.le_of_ble_eq_true rfl, Nat.le_of_ble_eq_true rfl⟩) hS hD hAA (fun rr uu H locs hw hP hD hS => ?_)
  obtain rfl : r1 = rr := (congrArg Prod.fst hw).symm
  obtain rfl : u1 = uu := (congrArg Prod.snd hw).symm
  refine lv_if_ne (tgt := 13) hx hb dX5_solution_6 (by decide) (fun c2 => ?_) (fun c2 => ?_)
  · replace hF := it_f c2 hF
    refine lv_aload_n hx hb dX5_solution_13 rfl (lv_at hl 0 rfl) ?_
    obtain ⟨r3, u3, e3, hF⟩ := bnd_s hF
    refine tw_calli (va_runV (As := []) (rest := [.ref m0]) ⟨hx, hb, hml, hown, hts⟩ (mt_isClosed l dC dI cI cZ m0 ad H.size u1   _ e3) (cwV 0 hts (lw_V q2456 q2458 qs97 q125 q2459) rfl rfl rfl (by decide +kernel) ⟨Nat.le_of_ble_eq_true rfl, Nat.le_of_ble_eq_true rfl⟩) (tw_preV hK hP hD _) rfl rfl hl.1 rfl (lv_room (Nat.le_of_ble_eq_true rfl)) dX5_solution_14 ⟨Nat.le_of_ble_eq_true rfl, Nat.le_of_ble_eq_true rfl⟩) hS hD hAA (fun rr uu H locs hw hP hD hS => ?_)
    obtain rfl : r3 = rr := (congrArg Prod.fst hw).symm
    obtain rfl : u3 = uu := (congrArg Prod.snd hw).symm
    refine lv_if_ne (tgt := 24) hx hb dX5_solution_17 (by decide) (fun c4 => ?_) (fun c4 => ?_)
    · replace hF := it_f c4 hF
      refine lv_aload_n hx hb dX5_solution_24 rfl (lv_at hl 0 rfl) ?_
      obtain ⟨r5, u5, e5, hF⟩ := bnd_s hF
      refine tw_calli (va_runV (As := []) (rest := [.ref m0]) ⟨hx, hb, hml, hown, hts⟩ (mt_solves l dC dI cI cZ m0 ad H.size u3 n   _ e5) (cwV 0 hts (lw_V q2460 q2462 qs98 q125 q2463) rfl rfl rfl (by decide +kernel) ⟨Nat.le_of_ble_eq_true rfl, Nat.le_of_ble_eq_true rfl⟩) (tw_preV hK hP hD _) rfl rfl hl.1 rfl (lv_room (Nat.le_of_ble_eq_true rfl)) dX5_solution_25 ⟨Nat.le_of_ble_eq_true rfl, Nat.le_of_ble_eq_true rfl⟩) hS hD hAA (fun rr uu H locs hw hP hD hS => ?_)
      obtain rfl : r5 = rr := (congrArg Prod.fst hw).symm
      obtain rfl : u5 = uu := (congrArg Prod.snd hw).symm
      refine lv_if_eq (tgt := 35) hx hb dX5_solution_28 (by decide) (fun c6 => ?_) (fun c6 => ?_)
      · replace hF := it_t c6 hF
        refine lv_iconst (v := 3) hx hb dX5_solution_35 (by decide) ?_
        refine va_put (D := (dC, dI)) (ci := 0) (v := .int 3) (ty := .int) (C := RX5) (T := TX5) (N := 28) hx hb hts in_X5 tyX5 tyX5_ok nmX5 hown hK hP hD hS 0 tw_g rfl 6 (by decide) (hts _ q1992) (fun _ h9 => h9) rfl (tyX5_ok 6 (by decide)) rfl rfl (Nat.le_of_ble_eq_true rfl) dX5_solution_36 (fun H locs hP hD hS => ?_)
        rw [tw_p6] at hP hD
        refine lv_aload_n hx hb dX5_solution_39 rfl (lv_at hl 0 rfl) ?_
        refine va_get (D := (dC, dI)) (ci := 0) (v := .int (((tw_sf u5 6 3)).1 6)) (C := RX5) (T := TX5) (N := 28) hx hb hts in_X5 hown hK hP 0 tw_g rfl 6 (by decide) (hts _ q1992) (fun _ h9 => h9) rfl dX5_solution_40 ?_
        refine lv_if_le (tgt := 48) hx hb dX5_solution_43 (by decide) (fun c7 => ?_) (fun c7 => ?_)
        · replace hF := it_t c7 hF
          refine lv_aload_n hx hb dX5_solution_48 rfl (lv_at hl 0 rfl) ?_
          refine lv_iconst (v := 0) hx hb dX5_solution_49 (by decide) ?_
          obtain ⟨r8, u8, e8, hF⟩ := bnd_s hF
          refine tw_calli (va_runV (As := [.int 0]) (rest := []) ⟨hx, hb, hml, hown, hts⟩ (mt_directionsOf l dC dI cI cZ m0 ad H.size (tw_sf u5 6 3) n  0 _ e8) (cwV 1 hts (lw_V q2229 q2231 qs64 q125 q2232) rfl rfl rfl (by decide +kernel) ⟨Nat.le_of_ble_eq_true rfl, Nat.le_of_ble_eq_true rfl⟩) (tw_preV hK hP hD _) rfl rfl hl.1 rfl (lv_room (Nat.le_of_ble_eq_true rfl)) dX5_solution_50 ⟨Nat.le_of_ble_eq_true rfl, Nat.le_of_ble_eq_true rfl⟩) hS hD hAA (fun rr uu H locs hw hP hD hS => ?_)
          obtain rfl : r8 = rr := (congrArg Prod.fst hw).symm
          obtain rfl : u8 = uu := (congrArg Prod.snd hw).symm
          refine lv_istore_n (lv' := [(2, .int r8), (0, .ref m0), (1, .int p1)]) hx hb dX5_solution_53 rfl hl (by decide) rfl (fun ls hl => ?_)
          refine lv_iconst (v := 0) hx hb dX5_solution_54 (by decide) ?_
          refine lv_istore_n (lv' := [(3, .int 0), (2, .int r8), (0, .ref m0), (1, .int p1)]) hx hb dX5_solution_55 rfl hl (by decide) rfl (fun ls hl => ?_)
          refine lv_iconst (v := 0) hx hb dX5_solution_56 (by decide) ?_
          refine lv_istore (lv' := [(4, .int 0), (3, .int 0), (2, .int r8), (0, .ref m0), (1, .int p1)]) hx hb dX5_solution_57 hl (by decide) rfl (fun ls hl => ?_)
          exact lp1 u8 p1 r8 0 0 hF _ _ hP hD hS ls (lv_sub hl [3, 4, 2, 1, 0] rfl)
        · replace hF := it_f c7 hF
          refine lv_iconst (v := 0) hx hb dX5_solution_46 (by decide) ?_
          exact W.iret (v := 0) hx hb hr (fun t ht hW => ⟨⟨0, (tw_sf u5 6 3), rfl, Option.some.inj hF, by rw [ht]; exact hP, va_K.moved hW.alike hK⟩, hS.F ht⟩) hS.2.2 dX5_solution_47
      · replace hF := it_f c6 hF
        refine lv_iconst (v := 0) hx hb dX5_solution_31 (by decide) ?_
        refine lv_goto (tgt := 36) hx hb dX5_solution_32 (by decide) ?_
        refine va_put (D := (dC, dI)) (ci := 0) (v := .int 0) (ty := .int) (C := RX5) (T := TX5) (N := 28) hx hb hts in_X5 tyX5 tyX5_ok nmX5 hown hK hP hD hS 0 tw_g rfl 6 (by decide) (hts _ q1992) (fun _ h9 => h9) rfl (tyX5_ok 6 (by decide)) rfl rfl (Nat.le_of_ble_eq_true rfl) dX5_solution_36 (fun H locs hP hD hS => ?_)
        rw [tw_p6] at hP hD
        refine lv_aload_n hx hb dX5_solution_39 rfl (lv_at hl 0 rfl) ?_
        refine va_get (D := (dC, dI)) (ci := 0) (v := .int (((tw_sf u5 6 0)).1 6)) (C := RX5) (T := TX5) (N := 28) hx hb hts in_X5 hown hK hP 0 tw_g rfl 6 (by decide) (hts _ q1992) (fun _ h9 => h9) rfl dX5_solution_40 ?_
        refine lv_if_le (tgt := 48) hx hb dX5_solution_43 (by decide) (fun c9 => ?_) (fun c9 => ?_)
        · replace hF := it_t c9 hF
          refine lv_aload_n hx hb dX5_solution_48 rfl (lv_at hl 0 rfl) ?_
          refine lv_iconst (v := 0) hx hb dX5_solution_49 (by decide) ?_
          obtain ⟨r10, u10, e10, hF⟩ := bnd_s hF
          refine tw_calli (va_runV (As := [.int 0]) (rest := []) ⟨hx, hb, hml, hown, hts⟩ (mt_directionsOf l dC dI cI cZ m0 ad H.size (tw_sf u5 6 0) n  0 _ e10) (cwV 1 hts (lw_V q2229 q2231 qs64 q125 q2232) rfl rfl rfl (by decide +kernel) ⟨Nat.le_of_ble_eq_true rfl, Nat.le_of_ble_eq_true rfl⟩) (tw_preV hK hP hD _) rfl rfl hl.1 rfl (lv_room (Nat.le_of_ble_eq_true rfl)) dX5_solution_50 ⟨Nat.le_of_ble_eq_true rfl, Nat.le_of_ble_eq_true rfl⟩) hS hD hAA (fun rr uu H locs hw hP hD hS => ?_)
          obtain rfl : r10 = rr := (congrArg Prod.fst hw).symm
          obtain rfl : u10 = uu := (congrArg Prod.snd hw).symm
          refine lv_istore_n (lv' := [(2, .int r10), (0, .ref m0), (1, .int p1)]) hx hb dX5_solution_53 rfl hl (by decide) rfl (fun ls hl => ?_)
          refine lv_iconst (v := 0) hx hb dX5_solution_54 (by decide) ?_
          refine lv_istore_n (lv' := [(3, .int 0), (2, .int r10), (0, .ref m0), (1, .int p1)]) hx hb dX5_solution_55 rfl hl (by decide) rfl (fun ls hl => ?_)
          refine lv_iconst (v := 0) hx hb dX5_solution_56 (by decide) ?_
          refine lv_istore (lv' := [(4, .int 0), (3, .int 0), (2, .int r10), (0, .ref m0), (1, .int p1)]) hx hb dX5_solution_57 hl (by decide) rfl (fun ls hl => ?_)
          exact lp1 u10 p1 r10 0 0 hF _ _ hP hD hS ls (lv_sub hl [3, 4, 2, 1, 0] rfl)
        · replace hF := it_f c9 hF
          refine lv_iconst (v := 0) hx hb dX5_solution_46 (by decide) ?_
          exact W.iret (v := 0) hx hb hr (fun t ht hW => ⟨⟨0, (tw_sf u5 6 0), rfl, Option.some.inj hF, by rw [ht]; exact hP, va_K.moved hW.alike hK⟩, hS.F ht⟩) hS.2.2 dX5_solution_47
    · replace hF := it_t c4 hF
      refine lv_iconst (v := 2) hx hb dX5_solution_20 (by decide) ?_
      refine lv_goto (tgt := 36) hx hb dX5_solution_21 (by decide) ?_
      refine va_put (D := (dC, dI)) (ci := 0) (v := .int 2) (ty := .int) (C := RX5) (T := TX5) (N := 28) hx hb hts in_X5 tyX5 tyX5_ok nmX5 hown hK hP hD hS 0 tw_g rfl 6 (by decide) (hts _ q1992) (fun _ h9 => h9) rfl (tyX5_ok 6 (by decide)) rfl rfl (Nat.le_of_ble_eq_true rfl) dX5_solution_36 (fun H locs hP hD hS => ?_)
      rw [tw_p6] at hP hD
      refine lv_aload_n hx hb dX5_solution_39 rfl (lv_at hl 0 rfl) ?_
      refine va_get (D := (dC, dI)) (ci := 0) (v := .int (((tw_sf u3 6 2)).1 6)) (C := RX5) (T := TX5) (N := 28) hx hb hts in_X5 hown hK hP 0 tw_g rfl 6 (by decide) (hts _ q1992) (fun _ h9 => h9) rfl dX5_solution_40 ?_
      refine lv_if_le (tgt := 48) hx hb dX5_solution_43 (by decide) (fun c11 => ?_) (fun c11 => ?_)
      · replace hF := it_t c11 hF
        refine lv_aload_n hx hb dX5_solution_48 rfl (lv_at hl 0 rfl) ?_
        refine lv_iconst (v := 0) hx hb dX5_solution_49 (by decide) ?_
        obtain ⟨r12, u12, e12, hF⟩ := bnd_s hF
        refine tw_calli (va_runV (As := [.int 0]) (rest := []) ⟨hx, hb, hml, hown, hts⟩ (mt_directionsOf l dC dI cI cZ m0 ad H.size (tw_sf u3 6 2) n  0 _ e12) (cwV 1 hts (lw_V q2229 q2231 qs64 q125 q2232) rfl rfl rfl (by decide +kernel) ⟨Nat.le_of_ble_eq_true rfl, Nat.le_of_ble_eq_true rfl⟩) (tw_preV hK hP hD _) rfl rfl hl.1 rfl (lv_room (Nat.le_of_ble_eq_true rfl)) dX5_solution_50 ⟨Nat.le_of_ble_eq_true rfl, Nat.le_of_ble_eq_true rfl⟩) hS hD hAA (fun rr uu H locs hw hP hD hS => ?_)
        obtain rfl : r12 = rr := (congrArg Prod.fst hw).symm
        obtain rfl : u12 = uu := (congrArg Prod.snd hw).symm
        refine lv_istore_n (lv' := [(2, .int r12), (0, .ref m0), (1, .int p1)]) hx hb dX5_solution_53 rfl hl (by decide) rfl (fun ls hl => ?_)
        refine lv_iconst (v := 0) hx hb dX5_solution_54 (by decide) ?_
        refine lv_istore_n (lv' := [(3, .int 0), (2, .int r12), (0, .ref m0), (1, .int p1)]) hx hb dX5_solution_55 rfl hl (by decide) rfl (fun ls hl => ?_)
        refine lv_iconst (v := 0) hx hb dX5_solution_56 (by decide) ?_
        refine lv_istore (lv' := [(4, .int 0), (3, .int 0), (2, .int r12), (0, .ref m0), (1, .int p1)]) hx hb dX5_solution_57 hl (by decide) rfl (fun ls hl => ?_)
        exact lp1 u12 p1 r12 0 0 hF _ _ hP hD hS ls (lv_sub hl [3, 4, 2, 1, 0] rfl)
      · replace hF := it_f c11 hF
        refine lv_iconst (v := 0) hx hb dX5_solution_46 (by decide) ?_
        exact W.iret (v := 0) hx hb hr (fun t ht hW => ⟨⟨0, (tw_sf u3 6 2), rfl, Option.some.inj hF, by rw [ht]; exact hP, va_K.moved hW.alike hK⟩, hS.F ht⟩) hS.2.2 dX5_solution_47
  · replace hF := it_t c2 hF
    refine lv_iconst (v := 1) hx hb dX5_solution_9 (by decide) ?_
    refine lv_goto (tgt := 36) hx hb dX5_solution_10 (by decide) ?_
    refine va_put (D := (dC, dI)) (ci := 0) (v := .int 1) (ty := .int) (C := RX5) (T := TX5) (N := 28) hx hb hts in_X5 tyX5 tyX5_ok nmX5 hown hK hP hD hS 0 tw_g rfl 6 (by decide) (hts _ q1992) (fun _ h9 => h9) rfl (tyX5_ok 6 (by decide)) rfl rfl (Nat.le_of_ble_eq_true rfl) dX5_solution_36 (fun H locs hP hD hS => ?_)
    rw [tw_p6] at hP hD
    refine lv_aload_n hx hb dX5_solution_39 rfl (lv_at hl 0 rfl) ?_
    refine va_get (D := (dC, dI)) (ci := 0) (v := .int (((tw_sf u1 6 1)).1 6)) (C := RX5) (T := TX5) (N := 28) hx hb hts in_X5 hown hK hP 0 tw_g rfl 6 (by decide) (hts _ q1992) (fun _ h9 => h9) rfl dX5_solution_40 ?_
    refine lv_if_le (tgt := 48) hx hb dX5_solution_43 (by decide) (fun c13 => ?_) (fun c13 => ?_)
    · replace hF := it_t c13 hF
      refine lv_aload_n hx hb dX5_solution_48 rfl (lv_at hl 0 rfl) ?_
      refine lv_iconst (v := 0) hx hb dX5_solution_49 (by decide) ?_
      obtain ⟨r14, u14, e14, hF⟩ := bnd_s hF
      refine tw_calli (va_runV (As := [.int 0]) (rest := []) ⟨hx, hb, hml, hown, hts⟩ (mt_directionsOf l dC dI cI cZ m0 ad H.size (tw_sf u1 6 1) n  0 _ e14) (cwV 1 hts (lw_V q2229 q2231 qs64 q125 q2232) rfl rfl rfl (by decide +kernel) ⟨Nat.le_of_ble_eq_true rfl, Nat.le_of_ble_eq_true rfl⟩) (tw_preV hK hP hD _) rfl rfl hl.1 rfl (lv_room (Nat.le_of_ble_eq_true rfl)) dX5_solution_50 ⟨Nat.le_of_ble_eq_true rfl, Nat.le_of_ble_eq_true rfl⟩) hS hD hAA (fun rr uu H locs hw hP hD hS => ?_)
      obtain rfl : r14 = rr := (congrArg Prod.fst hw).symm
      obtain rfl : u14 = uu := (congrArg Prod.snd hw).symm
      refine lv_istore_n (lv' := [(2, .int r14), (0, .ref m0), (1, .int p1)]) hx hb dX5_solution_53 rfl hl (by decide) rfl (fun ls hl => ?_)
      refine lv_iconst (v := 0) hx hb dX5_solution_54 (by decide) ?_
      refine lv_istore_n (lv' := [(3, .int 0), (2, .int r14), (0, .ref m0), (1, .int p1)]) hx hb dX5_solution_55 rfl hl (by decide) rfl (fun ls hl => ?_)
      refine lv_iconst (v := 0) hx hb dX5_solution_56 (by decide) ?_
      refine lv_istore (lv' := [(4, .int 0), (3, .int 0), (2, .int r14), (0, .ref m0), (1, .int p1)]) hx hb dX5_solution_57 hl (by decide) rfl (fun ls hl => ?_)
      exact lp1 u14 p1 r14 0 0 hF _ _ hP hD hS ls (lv_sub hl [3, 4, 2, 1, 0] rfl)
    · replace hF := it_f c13 hF
      refine lv_iconst (v := 0) hx hb dX5_solution_46 (by decide) ?_
      exact W.iret (v := 0) hx hb hr (fun t ht hW => ⟨⟨0, (tw_sf u1 6 1), rfl, Option.some.inj hF, by rw [ht]; exact hP, va_K.moved hW.alike hK⟩, hS.F ht⟩) hS.2.2 dX5_solution_47

def F_remainder (n : Nat) (σ : Tw) (p1 : Int32) (p2 : Int32) : Option (Int32 × Tw) := bnd (F_isPlace σ p1) (fun r1 u1 => if r1 = 0 then if (((tw_sf u1 6 1)).1 6) ≤ 0 then bnd (F_laysUnit_x n (tw_sf u1 6 1) p1) (fun r4 u4 => bnd (F_remains_x n u4 ) (fun r5 u5 => gd (inB p2 8) (some (((u5).2 19 (p2).toNatClampNeg), u5)))) else some (0, (tw_sf u1 6 1)) else bnd (F_isPlace u1 p2) (fun r7 u7 => if r7 = 0 then if (((tw_sf u7 6 1)).1 6) ≤ 0 then bnd (F_laysUnit_x n (tw_sf u7 6 1) p1) (fun r10 u10 => bnd (F_remains_x n u10 ) (fun r11 u11 => gd (inB p2 8) (some (((u11).2 19 (p2).toNatClampNeg), u11)))) else some (0, (tw_sf u7 6 1)) else if (((tw_sf u7 6 0)).1 6) ≤ 0 then bnd (F_laysUnit_x n (tw_sf u7 6 0) p1) (fun r14 u14 => bnd (F_remains_x n u14 ) (fun r15 u15 => gd (inB p2 8) (some (((u15).2 19 (p2).toNatClampNeg), u15)))) else some (0, (tw_sf u7 6 0))))
set_option maxHeartbeats 4000000 in
set_option maxRecDepth 100000 in
theorem mt_remainder (l : Launch) (dC : Nat → ClassId) (dI : Nat → Nat → Nat) (cI cZ : ClassId) (m0 : Nat) (ad : Nat → Nat) (sz : Nat) (σ : Tw) (n : Nat)  (p1 : Int32) (p2 : Int32) (out : Int32 × Tw) (hF : F_remainder n σ p1 p2 = some out) : Met l yX5_remainder (ws_ yX5_remainder cX5_remainder 3 (some .int)) ({ frames := 6, cells := 0, slots := 0, locals := 134 }) (va_Pc [.ref m0, .int p1, .int p2] (tw_Pre dC dI cI cZ m0 ad sz σ)) (va_Qi (fun r u => (r, u) = out) (tw_B dC dI cI cZ m0 ad) (tw_A m0 ad sz)) 0 0 (tw_A m0 ad sz) := by
  refine Met.ofW (cc := cX5_remainder) (maxL := 3) (ret := (some .int)) (by decide +kernel) rfl ?_
  intro p e s m args below meth c s₁ B hml hv
  obtain ⟨rfl, hsz, hP, hK, hD0⟩ := hv
  have hx := B.exec
  have hb := B.bytes
  have hr := B.returns
  have hts := atoms_spec (ws := (ws_ yX5_remainder cX5_remainder 3 (some .int))) B.pre
  have hts : ∀ w ∈ lw_all, w.before _ s = true := fun w h => hts w (List.mem_cons_of_mem _ h)
  have hown : s.vm.findClass RX5 = some m.cls := findClass_of_methodNamed B.named
  have hlocks := B.notSynchronized
  subst hsz
  have hD := tw_Ds (z := s.heap.size) hD0
  have hAA := fun z (h : s.heap.size ≤ z) => tw_Am (m0 := m0) (ad := ad) h
  generalize hAe : tw_A m0 ad s.heap.size = A at hD hAA ⊢
  have hS : va_S A s.heap s.heap [] := va_S.rf
  have hP : va_P (dC, dI) vwCl (tw_ws m0 ad cI cZ σ) s.heap := hP
  have hl := lv_entry ([.ref m0, .int p1, .int p2]) (n := 3) (Nat.le_of_ble_eq_true rfl)
  rw [lg_entry_eq]
  generalize (lg_sl ([.ref m0, .int p1, .int p2]) ++ List.replicate (3 - (lg_sl ([.ref m0, .int p1, .int p2])).length) Slot.unset).toArray = ls at hl ⊢
  have hl : lv_has ls 3 [(0, .ref m0), (1, .int p1), (2, .int p2)] := hl
  unfold F_remainder at hF
  refine lv_aload_n hx hb dX5_remainder_0 rfl (lv_at hl 0 rfl) ?_
  refine lv_aload_n hx hb dX5_remainder_1 rfl (lv_at hl 0 rfl) ?_
  refine lv_iload_n hx hb dX5_remainder_2 rfl (lv_at hl 1 rfl) ?_
  obtain ⟨r1, u1, e1, hF⟩ := bnd_s hF
  refine tw_calli (va_runV (As := [.int p1]) (rest := [.ref m0]) ⟨hx, hb, hml, hown, hts⟩ (mt_isPlace l dC dI cI cZ m0 ad s.heap.size σ  p1 _ e1) (cwV 1 hts (lw_V q2177 q2179 qs58 q125 q2180) rfl rfl rfl (by decide +kernel) ⟨Nat.le_of_ble_eq_true rfl, Nat.le_of_ble_eq_true rfl⟩) (tw_preV hK hP hD _) rfl rfl hl.1 rfl (lv_room (Nat.le_of_ble_eq_true rfl)) dX5_remainder_3 ⟨Nat.le_of_ble_eq_true rfl, Nat.le_of_ble_eq_true rfl⟩) hS hD hAA (fun rr uu H locs hw hP hD hS => ?_)
  obtain rfl : r1 = rr := (congrArg Prod.fst hw).symm
  obtain rfl : u1 = uu := (congrArg Prod.snd hw).symm
  refine lv_if_eq (tgt := 21) hx hb dX5_remainder_6 (by decide) (fun c2 => ?_) (fun c2 => ?_)
  · replace hF := it_t c2 hF
    refine lv_iconst (v := 1) hx hb dX5_remainder_21 (by decide) ?_
    refine va_put (D := (dC, dI)) (ci := 0) (v := .int 1) (ty := .int) (C := RX5) (T := TX5) (N := 28) hx hb hts in_X5 tyX5 tyX5_ok nmX5 hown hK hP hD hS 0 tw_g rfl 6 (by decide) (hts _ q1992) (fun _ h9 => h9) rfl (tyX5_ok 6 (by decide)) rfl rfl (Nat.le_of_ble_eq_true rfl) dX5_remainder_22 (fun H locs hP hD hS => ?_)
    rw [tw_p6] at hP hD
    refine lv_aload_n hx hb dX5_remainder_25 rfl (lv_at hl 0 rfl) ?_
    refine va_get (D := (dC, dI)) (ci := 0) (v := .int (((tw_sf u1 6 1)).1 6)) (C := RX5) (T := TX5) (N := 28) hx hb hts in_X5 hown hK hP 0 tw_g rfl 6 (by decide) (hts _ q1992) (fun _ h9 => h9) rfl dX5_remainder_26 ?_
    refine lv_if_le (tgt := 34) hx hb dX5_remainder_29 (by decide) (fun c3 => ?_) (fun c3 => ?_)
    · replace hF := it_t c3 hF
      refine lv_aload_n hx hb dX5_remainder_34 rfl (lv_at hl 0 rfl) ?_
      refine lv_iload_n hx hb dX5_remainder_35 rfl (lv_at hl 1 rfl) ?_
      refine lv_aload_n hx hb dX5_remainder_36 rfl (lv_at hl 0 rfl) ?_
      refine va_get (D := (dC, dI)) (ci := 0) (v := .ref (ad 17)) (C := RX5) (T := TX5) (N := 28) hx hb hts in_X5 hown hK hP 0 tw_g rfl 17 (by decide) (hts _ q2003) (fun _ h9 => h9) rfl dX5_remainder_37 ?_
      obtain ⟨r4, u4, e4, hF⟩ := bnd_s hF
      refine tw_callv (va_runV (As := [.int p1, .ref (ad 17)]) (rest := []) ⟨hx, hb, hml, hown, hts⟩ (mt_laysUnit_x l dC dI cI cZ m0 ad H.size (tw_sf u1 6 1) n  p1 _ e4) (cwV 2 hts (lw_V q2292 q2294 qs79 q125 q2295) rfl rfl rfl (by decide +kernel) ⟨Nat.le_of_ble_eq_true rfl, Nat.le_of_ble_eq_true rfl⟩) (tw_preV hK hP hD _) rfl rfl hl.1 rfl (lv_room (Nat.le_of_ble_eq_true rfl)) dX5_remainder_40 ⟨Nat.le_of_ble_eq_true rfl, Nat.le_of_ble_eq_true rfl⟩) hS hD hAA (fun uu H locs hw hP hD hS => ?_)
      obtain rfl : u4 = uu := (congrArg Prod.snd hw).symm
      refine lv_aload_n hx hb dX5_remainder_43 rfl (lv_at hl 0 rfl) ?_
      refine lv_aload_n hx hb dX5_remainder_44 rfl (lv_at hl 0 rfl) ?_
      refine va_get (D := (dC, dI)) (ci := 0) (v := .ref (ad 17)) (C := RX5) (T := TX5) (N := 28) hx hb hts in_X5 hown hK hP 0 tw_g rfl 17 (by decide) (hts _ q2003) (fun _ h9 => h9) rfl dX5_remainder_45 ?_
      obtain ⟨r5, u5, e5, hF⟩ := bnd_s hF
      refine tw_callv (va_runV (As := [.ref (ad 17)]) (rest := []) ⟨hx, hb, hml, hown, hts⟩ (mt_remains_x l dC dI cI cZ m0 ad H.size u4 n   _ e5) (cwV 1 hts (lw_V q2260 q2262 qs71 q125 q2263) rfl rfl rfl (by decide +kernel) ⟨Nat.le_of_ble_eq_true rfl, Nat.le_of_ble_eq_true rfl⟩) (tw_preV hK hP hD _) rfl rfl hl.1 rfl (lv_room (Nat.le_of_ble_eq_true rfl)) dX5_remainder_48 ⟨Nat.le_of_ble_eq_true rfl, Nat.le_of_ble_eq_true rfl⟩) hS hD hAA (fun uu H locs hw hP hD hS => ?_)
      obtain rfl : u5 = uu := (congrArg Prod.snd hw).symm
      refine lv_aload_n hx hb dX5_remainder_51 rfl (lv_at hl 0 rfl) ?_
      refine va_get (D := (dC, dI)) (ci := 0) (v := .ref (ad 19)) (C := RX5) (T := TX5) (N := 28) hx hb hts in_X5 hown hK hP 0 tw_g rfl 19 (by decide) (hts _ q2005) (fun _ h9 => h9) rfl dX5_remainder_52 ?_
      refine lv_iload_n hx hb dX5_remainder_55 rfl (lv_at hl 2 rfl) ?_
      obtain ⟨g6, hF⟩ := gd_s hF
      refine va_iald hx hb hK hP 9 0 tw_e19 rfl (inB_in g6) dX5_remainder_56 ?_
      exact W.iret (v := ((u5).2 19 (p2).toNatClampNeg)) hx hb hr (fun t ht hW => ⟨⟨((u5).2 19 (p2).toNatClampNeg), u5, rfl, Option.some.inj hF, by rw [ht]; exact hP, va_K.moved hW.alike hK⟩, hS.F ht⟩) hS.2.2 dX5_remainder_57
    · replace hF := it_f c3 hF
      refine lv_iconst (v := 0) hx hb dX5_remainder_32 (by decide) ?_
      exact W.iret (v := 0) hx hb hr (fun t ht hW => ⟨⟨0, (tw_sf u1 6 1), rfl, Option.some.inj hF, by rw [ht]; exact hP, va_K.moved hW.alike hK⟩, hS.F ht⟩) hS.2.2 dX5_remainder_33
  · replace hF := it_f c2 hF
    refine lv_aload_n hx hb dX5_remainder_9 rfl (lv_at hl 0 rfl) ?_
    refine lv_iload_n hx hb dX5_remainder_10 rfl (lv_at hl 2 rfl) ?_
    obtain ⟨r7, u7, e7, hF⟩ := bnd_s hF
    refine tw_calli (va_runV (As := [.int p2]) (rest := [.ref m0]) ⟨hx, hb, hml, hown, hts⟩ (mt_isPlace l dC dI cI cZ m0 ad H.size u1  p2 _ e7) (cwV 1 hts (lw_V q2177 q2179 qs58 q125 q2180) rfl rfl rfl (by decide +kernel) ⟨Nat.le_of_ble_eq_true rfl, Nat.le_of_ble_eq_true rfl⟩) (tw_preV hK hP hD _) rfl rfl hl.1 rfl (lv_room (Nat.le_of_ble_eq_true rfl)) dX5_remainder_11 ⟨Nat.le_of_ble_eq_true rfl, Nat.le_of_ble_eq_true rfl⟩) hS hD hAA (fun rr uu H locs hw hP hD hS => ?_)
    obtain rfl : r7 = rr := (congrArg Prod.fst hw).symm
    obtain rfl : u7 = uu := (congrArg Prod.snd hw).symm
    refine lv_if_eq (tgt := 21) hx hb dX5_remainder_14 (by decide) (fun c8 => ?_) (fun c8 => ?_)
    · replace hF := it_t c8 hF
      refine lv_iconst (v := 1) hx hb dX5_remainder_21 (by decide) ?_
      refine va_put (D := (dC, dI)) (ci := 0) (v := .int 1) (ty := .int) (C := RX5) (T := TX5) (N := 28) hx hb hts in_X5 tyX5 tyX5_ok nmX5 hown hK hP hD hS 0 tw_g rfl 6 (by decide) (hts _ q1992) (fun _ h9 => h9) rfl (tyX5_ok 6 (by decide)) rfl rfl (Nat.le_of_ble_eq_true rfl) dX5_remainder_22 (fun H locs hP hD hS => ?_)
      rw [tw_p6] at hP hD
      refine lv_aload_n hx hb dX5_remainder_25 rfl (lv_at hl 0 rfl) ?_
      refine va_get (D := (dC, dI)) (ci := 0) (v := .int (((tw_sf u7 6 1)).1 6)) (C := RX5) (T := TX5) (N := 28) hx hb hts in_X5 hown hK hP 0 tw_g rfl 6 (by decide) (hts _ q1992) (fun _ h9 => h9) rfl dX5_remainder_26 ?_
      refine lv_if_le (tgt := 34) hx hb dX5_remainder_29 (by decide) (fun c9 => ?_) (fun c9 => ?_)
      · replace hF := it_t c9 hF
        refine lv_aload_n hx hb dX5_remainder_34 rfl (lv_at hl 0 rfl) ?_
        refine lv_iload_n hx hb dX5_remainder_35 rfl (lv_at hl 1 rfl) ?_
        refine lv_aload_n hx hb dX5_remainder_36 rfl (lv_at hl 0 rfl) ?_
        refine va_get (D := (dC, dI)) (ci := 0) (v := .ref (ad 17)) (C := RX5) (T := TX5) (N := 28) hx hb hts in_X5 hown hK hP 0 tw_g rfl 17 (by decide) (hts _ q2003) (fun _ h9 => h9) rfl dX5_remainder_37 ?_
        obtain ⟨r10, u10, e10, hF⟩ := bnd_s hF
        refine tw_callv (va_runV (As := [.int p1, .ref (ad 17)]) (rest := []) ⟨hx, hb, hml, hown, hts⟩ (mt_laysUnit_x l dC dI cI cZ m0 ad H.size (tw_sf u7 6 1) n  p1 _ e10) (cwV 2 hts (lw_V q2292 q2294 qs79 q125 q2295) rfl rfl rfl (by decide +kernel) ⟨Nat.le_of_ble_eq_true rfl, Nat.le_of_ble_eq_true rfl⟩) (tw_preV hK hP hD _) rfl rfl hl.1 rfl (lv_room (Nat.le_of_ble_eq_true rfl)) dX5_remainder_40 ⟨Nat.le_of_ble_eq_true rfl, Nat.le_of_ble_eq_true rfl⟩) hS hD hAA (fun uu H locs hw hP hD hS => ?_)
        obtain rfl : u10 = uu := (congrArg Prod.snd hw).symm
        refine lv_aload_n hx hb dX5_remainder_43 rfl (lv_at hl 0 rfl) ?_
        refine lv_aload_n hx hb dX5_remainder_44 rfl (lv_at hl 0 rfl) ?_
        refine va_get (D := (dC, dI)) (ci := 0) (v := .ref (ad 17)) (C := RX5) (T := TX5) (N := 28) hx hb hts in_X5 hown hK hP 0 tw_g rfl 17 (by decide) (hts _ q2003) (fun _ h9 => h9) rfl dX5_remainder_45 ?_
        obtain ⟨r11, u11, e11, hF⟩ := bnd_s hF
        refine tw_callv (va_runV (As := [.ref (ad 17)]) (rest := []) ⟨hx, hb, hml, hown, hts⟩ (mt_remains_x l dC dI cI cZ m0 ad H.size u10 n   _ e11) (cwV 1 hts (lw_V q2260 q2262 qs71 q125 q2263) rfl rfl rfl (by decide +kernel) ⟨Nat.le_of_ble_eq_true rfl, Nat.le_of_ble_eq_true rfl⟩) (tw_preV hK hP hD _) rfl rfl hl.1 rfl (lv_room (Nat.le_of_ble_eq_true rfl)) dX5_remainder_48 ⟨Nat.le_of_ble_eq_true rfl, Nat.le_of_ble_eq_true rfl⟩) hS hD hAA (fun uu H locs hw hP hD hS => ?_)
        obtain rfl : u11 = uu := (congrArg Prod.snd hw).symm
        refine lv_aload_n hx hb dX5_remainder_51 rfl (lv_at hl 0 rfl) ?_
        refine va_get (D := (dC, dI)) (ci := 0) (v := .ref (ad 19)) (C := RX5) (T := TX5) (N := 28) hx hb hts in_X5 hown hK hP 0 tw_g rfl 19 (by decide) (hts _ q2005) (fun _ h9 => h9) rfl dX5_remainder_52 ?_
        refine lv_iload_n hx hb dX5_remainder_55 rfl (lv_at hl 2 rfl) ?_
        obtain ⟨g12, hF⟩ := gd_s hF
        refine va_iald hx hb hK hP 9 0 tw_e19 rfl (inB_in g12) dX5_remainder_56 ?_
        exact W.iret (v := ((u11).2 19 (p2).toNatClampNeg)) hx hb hr (fun t ht hW => ⟨⟨((u11).2 19 (p2).toNatClampNeg), u11, rfl, Option.some.inj hF, by rw [ht]; exact hP, va_K.moved hW.alike hK⟩, hS.F ht⟩) hS.2.2 dX5_remainder_57
      · replace hF := it_f c9 hF
        refine lv_iconst (v := 0) hx hb dX5_remainder_32 (by decide) ?_
        exact W.iret (v := 0) hx hb hr (fun t ht hW => ⟨⟨0, (tw_sf u7 6 1), rfl, Option.some.inj hF, by rw [ht]; exact hP, va_K.moved hW.alike hK⟩, hS.F ht⟩) hS.2.2 dX5_remainder_33
    · replace hF := it_f c8 hF
      refine lv_iconst (v := 0) hx hb dX5_remainder_17 (by decide) ?_
      refine lv_goto (tgt := 22) hx hb dX5_remainder_18 (by decide) ?_
      refine va_put (D := (dC, dI)) (ci := 0) (v := .int 0) (ty := .int) (C := RX5) (T := TX5) (N := 28) hx hb hts in_X5 tyX5 tyX5_ok nmX5 hown hK hP hD hS 0 tw_g rfl 6 (by decide) (hts _ q1992) (fun _ h9 => h9) rfl (tyX5_ok 6 (by decide)) rfl rfl (Nat.le_of_ble_eq_true rfl) dX5_remainder_22 (fun H locs hP hD hS => ?_)
      rw [tw_p6] at hP hD
      refine lv_aload_n hx hb dX5_remainder_25 rfl (lv_at hl 0 rfl) ?_
      refine va_get (D := (dC, dI)) (ci := 0) (v := .int (((tw_sf u7 6 0)).1 6)) (C := RX5) (T := TX5) (N := 28) hx hb hts in_X5 hown hK hP 0 tw_g rfl 6 (by decide) (hts _ q1992) (fun _ h9 => h9) rfl dX5_remainder_26 ?_
      refine lv_if_le (tgt := 34) hx hb dX5_remainder_29 (by decide) (fun c13 => ?_) (fun c13 => ?_)
      · replace hF := it_t c13 hF
        refine lv_aload_n hx hb dX5_remainder_34 rfl (lv_at hl 0 rfl) ?_
        refine lv_iload_n hx hb dX5_remainder_35 rfl (lv_at hl 1 rfl) ?_
        refine lv_aload_n hx hb dX5_remainder_36 rfl (lv_at hl 0 rfl) ?_
        refine va_get (D := (dC, dI)) (ci := 0) (v := .ref (ad 17)) (C := RX5) (T := TX5) (N := 28) hx hb hts in_X5 hown hK hP 0 tw_g rfl 17 (by decide) (hts _ q2003) (fun _ h9 => h9) rfl dX5_remainder_37 ?_
        obtain ⟨r14, u14, e14, hF⟩ := bnd_s hF
        refine tw_callv (va_runV (As := [.int p1, .ref (ad 17)]) (rest := []) ⟨hx, hb, hml, hown, hts⟩ (mt_laysUnit_x l dC dI cI cZ m0 ad H.size (tw_sf u7 6 0) n  p1 _ e14) (cwV 2 hts (lw_V q2292 q2294 qs79 q125 q2295) rfl rfl rfl (by decide +kernel) ⟨Nat.le_of_ble_eq_true rfl, Nat.le_of_ble_eq_true rfl⟩) (tw_preV hK hP hD _) rfl rfl hl.1 rfl (lv_room (Nat.le_of_ble_eq_true rfl)) dX5_remainder_40 ⟨Nat.le_of_ble_eq_true rfl, Nat.le_of_ble_eq_true rfl⟩) hS hD hAA (fun uu H locs hw hP hD hS => ?_)
        obtain rfl : u14 = uu := (congrArg Prod.snd hw).symm
        refine lv_aload_n hx hb dX5_remainder_43 rfl (lv_at hl 0 rfl) ?_
        refine lv_aload_n hx hb dX5_remainder_44 rfl (lv_at hl 0 rfl) ?_
        refine va_get (D := (dC, dI)) (ci := 0) (v := .ref (ad 17)) (C := RX5) (T := TX5) (N := 28) hx hb hts in_X5 hown hK hP 0 tw_g rfl 17 (by decide) (hts _ q2003) (fun _ h9 => h9) rfl dX5_remainder_45 ?_
        obtain ⟨r15, u15, e15, hF⟩ := bnd_s hF
        refine tw_callv (va_runV (As := [.ref (ad 17)]) (rest := []) ⟨hx, hb, hml, hown, hts⟩ (mt_remains_x l dC dI cI cZ m0 ad H.size u14 n   _ e15) (cwV 1 hts (lw_V q2260 q2262 qs71 q125 q2263) rfl rfl rfl (by decide +kernel) ⟨Nat.le_of_ble_eq_true rfl, Nat.le_of_ble_eq_true rfl⟩) (tw_preV hK hP hD _) rfl rfl hl.1 rfl (lv_room (Nat.le_of_ble_eq_true rfl)) dX5_remainder_48 ⟨Nat.le_of_ble_eq_true rfl, Nat.le_of_ble_eq_true rfl⟩) hS hD hAA (fun uu H locs hw hP hD hS => ?_)
        obtain rfl : u15 = uu := (congrArg Prod.snd hw).symm
        refine lv_aload_n hx hb dX5_remainder_51 rfl (lv_at hl 0 rfl) ?_
        refine va_get (D := (dC, dI)) (ci := 0) (v := .ref (ad 19)) (C := RX5) (T := TX5) (N := 28) hx hb hts in_X5 hown hK hP 0 tw_g rfl 19 (by decide) (hts _ q2005) (fun _ h9 => h9) rfl dX5_remainder_52 ?_
        refine lv_iload_n hx hb dX5_remainder_55 rfl (lv_at hl 2 rfl) ?_
        obtain ⟨g16, hF⟩ := gd_s hF
        refine va_iald hx hb hK hP 9 0 tw_e19 rfl (inB_in g16) dX5_remainder_56 ?_
        exact W.iret (v := ((u15).2 19 (p2).toNatClampNeg)) hx hb hr (fun t ht hW => ⟨⟨((u15).2 19 (p2).toNatClampNeg), u15, rfl, Option.some.inj hF, by rw [ht]; exact hP, va_K.moved hW.alike hK⟩, hS.F ht⟩) hS.2.2 dX5_remainder_57
      · replace hF := it_f c13 hF
        refine lv_iconst (v := 0) hx hb dX5_remainder_32 (by decide) ?_
        exact W.iret (v := 0) hx hb hr (fun t ht hW => ⟨⟨0, (tw_sf u7 6 0), rfl, Option.some.inj hF, by rw [ht]; exact hP, va_K.moved hW.alike hK⟩, hS.F ht⟩) hS.2.2 dX5_remainder_33

def F_says (σ : Tw) (p1 : Int32) : Option (Int32 × Tw) := gd (inB ((σ).1 27) 40) (some (0, (tw_sf (tw_sa σ 26 (((σ).1 27)).toNatClampNeg p1) 27 ((((tw_sa σ 26 (((σ).1 27)).toNatClampNeg p1)).1 27) + 1))))
set_option maxHeartbeats 4000000 in
set_option maxRecDepth 100000 in
theorem mt_says (l : Launch) (dC : Nat → ClassId) (dI : Nat → Nat → Nat) (cI cZ : ClassId) (m0 : Nat) (ad : Nat → Nat) (sz : Nat) (σ : Tw)  (p1 : Int32) (out : Int32 × Tw) (hF : F_says σ p1 = some out) : Met l yX5_says (ws_ yX5_says cX5_says 2 none) ({ frames := 0, cells := 0, slots := 0, locals := 0 }) (va_Pc [.ref m0, .int p1] (tw_Pre dC dI cI cZ m0 ad sz σ)) (va_Qv (fun u => (0, u) = out) (tw_B dC dI cI cZ m0 ad) (tw_A m0 ad sz)) 0 0 (tw_A m0 ad sz) := by
  refine Met.ofW (cc := cX5_says) (maxL := 2) (ret := none) (by decide +kernel) rfl ?_
  intro p e s m args below meth c s₁ B hml hv
  obtain ⟨rfl, hsz, hP, hK, hD0⟩ := hv
  have hx := B.exec
  have hb := B.bytes
  have hr := B.returns
  have hts := atoms_spec (ws := (ws_ yX5_says cX5_says 2 none)) B.pre
  have hts : ∀ w ∈ lw_all, w.before _ s = true := fun w h => hts w (List.mem_cons_of_mem _ h)
  have hown : s.vm.findClass RX5 = some m.cls := findClass_of_methodNamed B.named
  have hlocks := B.notSynchronized
  subst hsz
  have hD := tw_Ds (z := s.heap.size) hD0
  have hAA := fun z (h : s.heap.size ≤ z) => tw_Am (m0 := m0) (ad := ad) h
  generalize hAe : tw_A m0 ad s.heap.size = A at hD hAA ⊢
  have hS : va_S A s.heap s.heap [] := va_S.rf
  have hP : va_P (dC, dI) vwCl (tw_ws m0 ad cI cZ σ) s.heap := hP
  have hl := lv_entry ([.ref m0, .int p1]) (n := 2) (Nat.le_of_ble_eq_true rfl)
  rw [lg_entry_eq]
  generalize (lg_sl ([.ref m0, .int p1]) ++ List.replicate (2 - (lg_sl ([.ref m0, .int p1])).length) Slot.unset).toArray = ls at hl ⊢
  have hl : lv_has ls 2 [(0, .ref m0), (1, .int p1)] := hl
  unfold F_says at hF
  refine lv_aload_n hx hb dX5_says_0 rfl (lv_at hl 0 rfl) ?_
  refine va_get (D := (dC, dI)) (ci := 0) (v := .ref (ad 26)) (C := RX5) (T := TX5) (N := 28) hx hb hts in_X5 hown hK hP 0 tw_g rfl 26 (by decide) (hts _ q2012) (fun _ h9 => h9) rfl dX5_says_1 ?_
  refine lv_aload_n hx hb dX5_says_4 rfl (lv_at hl 0 rfl) ?_
  refine va_get (D := (dC, dI)) (ci := 0) (v := .int ((σ).1 27)) (C := RX5) (T := TX5) (N := 28) hx hb hts in_X5 hown hK hP 0 tw_g rfl 27 (by decide) (hts _ q2013) (fun _ h9 => h9) rfl dX5_says_5 ?_
  refine lv_iload_n hx hb dX5_says_8 rfl (lv_at hl 1 rfl) ?_
  obtain ⟨g1, hF⟩ := gd_s hF
  refine va_iast hx hb hK hP hD hS 14 0 tw_e26 rfl (x := p1) (inB_in g1) dX5_says_9 (fun H locs hP hD hS => ?_)
  rw [tw_s26] at hP hD
  refine lv_aload_n hx hb dX5_says_10 rfl (lv_at hl 0 rfl) ?_
  refine lv_dup hx hb dX5_says_11 rfl ?_
  refine va_get (D := (dC, dI)) (ci := 0) (v := .int (((tw_sa σ 26 (((σ).1 27)).toNatClampNeg p1)).1 27)) (C := RX5) (T := TX5) (N := 28) hx hb hts in_X5 hown hK hP 0 tw_g rfl 27 (by decide) (hts _ q2013) (fun _ h9 => h9) rfl dX5_says_12 ?_
  refine lv_iconst (v := 1) hx hb dX5_says_15 (by decide) ?_
  refine lv_iadd hx hb dX5_says_16 ?_
  refine va_put (D := (dC, dI)) (ci := 0) (v := .int ((((tw_sa σ 26 (((σ).1 27)).toNatClampNeg p1)).1 27) + 1)) (ty := .int) (C := RX5) (T := TX5) (N := 28) hx hb hts in_X5 tyX5 tyX5_ok nmX5 hown hK hP hD hS 0 tw_g rfl 27 (by decide) (hts _ q2013) (fun _ h9 => h9) rfl (tyX5_ok 27 (by decide)) rfl rfl (Nat.le_of_ble_eq_true rfl) dX5_says_17 (fun H locs hP hD hS => ?_)
  rw [tw_p27] at hP hD
  exact W.vret hx hb hr (fun t ht hW => ⟨⟨(tw_sf (tw_sa σ 26 (((σ).1 27)).toNatClampNeg p1) 27 ((((tw_sa σ 26 (((σ).1 27)).toNatClampNeg p1)).1 27) + 1)), rfl, Option.some.inj hF, by rw [ht]; exact hP, va_K.moved hW.alike hK⟩, hS.F ht⟩) hS.2.2 dX5_says_20

def F_letterOf (σ : Tw) (p0 : Int32) : Option (Int32 × Tw) := if p0 = 0 then some (111, σ) else if p0 = 1 then some (99, σ) else if p0 = 2 then some (98, σ) else some (108, σ)
set_option maxHeartbeats 4000000 in
set_option maxRecDepth 100000 in
theorem mt_letterOf (l : Launch) (dC : Nat → ClassId) (dI : Nat → Nat → Nat) (cI cZ : ClassId) (m0 : Nat) (ad : Nat → Nat) (sz : Nat) (σ : Tw)  (p0 : Int32) (out : Int32 × Tw) (hF : F_letterOf σ p0 = some out) : Met l yX5_letterOf (ws_ yX5_letterOf cX5_letterOf 1 (some .int)) ({ frames := 0, cells := 0, slots := 0, locals := 0 }) (va_Pc [.int p0] (tw_Pre dC dI cI cZ m0 ad sz σ)) (va_Qi (fun r u => (r, u) = out) (tw_B dC dI cI cZ m0 ad) (tw_A m0 ad sz)) 0 0 (tw_A m0 ad sz) := by
  refine Met.ofW (cc := cX5_letterOf) (maxL := 1) (ret := (some .int)) (by decide +kernel) rfl ?_
  intro p e s m args below meth c s₁ B hml hv
  obtain ⟨rfl, hsz, hP, hK, hD0⟩ := hv
  have hx := B.exec
  have hb := B.bytes
  have hr := B.returns
  have hts := atoms_spec (ws := (ws_ yX5_letterOf cX5_letterOf 1 (some .int))) B.pre
  have hts : ∀ w ∈ lw_all, w.before _ s = true := fun w h => hts w (List.mem_cons_of_mem _ h)
  have hown : s.vm.findClass RX5 = some m.cls := findClass_of_methodNamed B.named
  have hlocks := B.notSynchronized
  subst hsz
  have hD := tw_Ds (z := s.heap.size) hD0
  have hAA := fun z (h : s.heap.size ≤ z) => tw_Am (m0 := m0) (ad := ad) h
  generalize hAe : tw_A m0 ad s.heap.size = A at hD hAA ⊢
  have hS : va_S A s.heap s.heap [] := va_S.rf
  have hP : va_P (dC, dI) vwCl (tw_ws m0 ad cI cZ σ) s.heap := hP
  have hl := lv_entry ([.int p0]) (n := 1) (Nat.le_of_ble_eq_true rfl)
  rw [lg_entry_eq]
  generalize (lg_sl ([.int p0]) ++ List.replicate (1 - (lg_sl ([.int p0])).length) Slot.unset).toArray = ls at hl ⊢
  have hl : lv_has ls 1 [(0, .int p0)] := hl
  unfold F_letterOf at hF
  refine lv_iload_n hx hb dX5_letterOf_0 rfl (lv_at hl 0 rfl) ?_
  refine lv_if_ne (tgt := 9) hx hb dX5_letterOf_1 (by decide) (fun c1 => ?_) (fun c1 => ?_)
  · replace hF := it_f c1 hF
    refine lv_iload_n hx hb dX5_letterOf_9 rfl (lv_at hl 0 rfl) ?_
    refine lv_iconst (v := 1) hx hb dX5_letterOf_10 (by decide) ?_
    refine lv_icmp_ne (tgt := 19) hx hb dX5_letterOf_11 (by decide) (fun c2 => ?_) (fun c2 => ?_)
    · replace hF := it_f c2 hF
      refine lv_iload_n hx hb dX5_letterOf_19 rfl (lv_at hl 0 rfl) ?_
      refine lv_iconst (v := 2) hx hb dX5_letterOf_20 (by decide) ?_
      refine lv_icmp_ne (tgt := 29) hx hb dX5_letterOf_21 (by decide) (fun c3 => ?_) (fun c3 => ?_)
      · replace hF := it_f c3 hF
        refine lv_bipush (v := 108) hx hb dX5_letterOf_29 (by decide) ?_
        exact W.iret (v := 108) hx hb hr (fun t ht hW => ⟨⟨108, σ, rfl, Option.some.inj hF, by rw [ht]; exact hP, va_K.moved hW.alike hK⟩, hS.F ht⟩) hS.2.2 dX5_letterOf_31
      · replace hF := it_t c3 hF
        refine lv_bipush (v := 98) hx hb dX5_letterOf_24 (by decide) ?_
        refine lv_goto (tgt := 31) hx hb dX5_letterOf_26 (by decide) ?_
        exact W.iret (v := 98) hx hb hr (fun t ht hW => ⟨⟨98, σ, rfl, Option.some.inj hF, by rw [ht]; exact hP, va_K.moved hW.alike hK⟩, hS.F ht⟩) hS.2.2 dX5_letterOf_31
    · replace hF := it_t c2 hF
      refine lv_bipush (v := 99) hx hb dX5_letterOf_14 (by decide) ?_
      refine lv_goto (tgt := 31) hx hb dX5_letterOf_16 (by decide) ?_
      exact W.iret (v := 99) hx hb hr (fun t ht hW => ⟨⟨99, σ, rfl, Option.some.inj hF, by rw [ht]; exact hP, va_K.moved hW.alike hK⟩, hS.F ht⟩) hS.2.2 dX5_letterOf_31
  · replace hF := it_t c1 hF
    refine lv_bipush (v := 111) hx hb dX5_letterOf_4 (by decide) ?_
    refine lv_goto (tgt := 31) hx hb dX5_letterOf_6 (by decide) ?_
    exact W.iret (v := 111) hx hb hr (fun t ht hW => ⟨⟨111, σ, rfl, Option.some.inj hF, by rw [ht]; exact hP, va_K.moved hW.alike hK⟩, hS.F ht⟩) hS.2.2 dX5_letterOf_31

def F_writeChains_1 (R : Nat → Tw → Int32 → Option (Int32 × Tw)) (n : Nat) (σ : Tw) (x1 : Int32) : Option (Int32 × Tw) := gd (inB 6 162) (if ((σ).2 0 (6 : Int32).toNatClampNeg) ≤ x1 then gd (inB 7 162) (if ((σ).2 0 (7 : Int32).toNatClampNeg) ≤ 0 then some (((σ).1 27), σ) else bnd (F_says σ 33) (fun r5 u5 => some (((u5).1 27), u5))) else if x1 ≤ 0 then bnd (F_directionsOf n σ x1) (fun r7 u7 => bnd (F_says u7 (48 + r7)) (fun r8 u8 => gd (inB (89 + x1) 162) (bnd (F_letterOf u8 ((u8).2 0 ((89 + x1)).toNatClampNeg)) (fun r10 u10 => bnd (F_says u10 r10) (fun r11 u11 => R 1 u11 (x1 + 1)))))) else bnd (F_says σ 32) (fun r12 u12 => bnd (F_directionsOf n u12 x1) (fun r13 u13 => bnd (F_says u13 (48 + r13)) (fun r14 u14 => gd (inB (89 + x1) 162) (bnd (F_letterOf u14 ((u14).2 0 ((89 + x1)).toNatClampNeg)) (fun r16 u16 => bnd (F_says u16 r16) (fun r17 u17 => R 1 u17 (x1 + 1))))))))
def F_writeChains_r : Nat → Nat → Tw → Int32 → Option (Int32 × Tw)
  | 0 => fun _ _ _ => none
  | n + 1 => fun k => match k with  | _ => F_writeChains_1 (F_writeChains_r n) n
def F_writeChains_0 (R : Nat → Tw → Int32 → Option (Int32 × Tw)) (n : Nat) (σ : Tw) : Option (Int32 × Tw) := R 1 (tw_sf (tw_sf σ 6 0) 27 0) 0
def F_writeChains (n : Nat) (σ : Tw) : Option (Int32 × Tw) := F_writeChains_0 (F_writeChains_r n) n σ 
set_option maxHeartbeats 4000000 in
set_option maxRecDepth 100000 in
theorem mt_writeChains (l : Launch) (dC : Nat → ClassId) (dI : Nat → Nat → Nat) (cI cZ : ClassId) (m0 : Nat) (ad : Nat → Nat) (sz : Nat) (σ : Tw) (n : Nat)  (out : Int32 × Tw) (hF : F_writeChains n σ  = some out) : Met l yX5_writeChains (ws_ yX5_writeChains cX5_writeChains 2 (some .int)) ({ frames := 1, cells := 0, slots := 0, locals := 23 }) (va_Pc [.ref m0] (tw_Pre dC dI cI cZ m0 ad sz σ)) (va_Qi (fun r u => (r, u) = out) (tw_B dC dI cI cZ m0 ad) (tw_A m0 ad sz)) 0 0 (tw_A m0 ad sz) := by
  refine Met.ofW (cc := cX5_writeChains) (maxL := 2) (ret := (some .int)) (by decide +kernel) rfl ?_
  intro p e s m args below meth c s₁ B hml hv
  obtain ⟨rfl, hsz, hP, hK, hD0⟩ := hv
  have hx := B.exec
  have hb := B.bytes
  have hr := B.returns
  have hts := atoms_spec (ws := (ws_ yX5_writeChains cX5_writeChains 2 (some .int))) B.pre
  have hts : ∀ w ∈ lw_all, w.before _ s = true := fun w h => hts w (List.mem_cons_of_mem _ h)
  have hown : s.vm.findClass RX5 = some m.cls := findClass_of_methodNamed B.named
  have hlocks := B.notSynchronized
  subst hsz
  have hD := tw_Ds (z := s.heap.size) hD0
  have hAA := fun z (h : s.heap.size ≤ z) => tw_Am (m0 := m0) (ad := ad) h
  generalize hAe : tw_A m0 ad s.heap.size = A at hD hAA ⊢
  have hS : va_S A s.heap s.heap [] := va_S.rf
  have hP : va_P (dC, dI) vwCl (tw_ws m0 ad cI cZ σ) s.heap := hP
  have hl := lv_entry ([.ref m0]) (n := 2) (Nat.le_of_ble_eq_true rfl)
  rw [lg_entry_eq]
  generalize (lg_sl ([.ref m0]) ++ List.replicate (2 - (lg_sl ([.ref m0])).length) Slot.unset).toArray = ls at hl ⊢
  have hl : lv_has ls 2 [(0, .ref m0)] := hl
  have loop : ∀ n : Nat, (∀ (σ : Tw) (x1 : Int32), F_writeChains_r n 1 σ x1 = some out → ∀ (H : Heap) (locs : List Loc), va_P (dC, dI) vwCl (tw_ws m0 ad cI cZ σ) H → va_D A (tw_ws m0 ad cI cZ σ) → va_S A s.heap H locs → ∀ ls : Array Slot, lv_has ls 2 [(0, .ref m0), (1, .int x1)] → W p l e (headSpec (ws_ yX5_writeChains cX5_writeChains 2 (some .int)) ({ frames := 1, cells := 0, slots := 0, locals := 23 })).room s m ([.ref m0] : List Value).toArray below meth c H locs 0 0 (MQ below (va_Qi (fun r u => (r, u) = out) (tw_B dC dI cI cZ m0 ad) A) ([.ref m0] : List Value).toArray s 0 0 A) (F0 m 12 ls [])) := by
    intro n
    induction n with
    | zero => exact (fun _ _ h => nomatch h)
    | succ n ih =>
      have lp1 := ih
      intro σ x1 hF H locs hP hD hS ls hl
      replace hF : F_writeChains_1 (F_writeChains_r n) n σ x1 = some out := hF
      unfold F_writeChains_1 at hF
      refine lv_iload_n hx hb dX5_writeChains_12 rfl (lv_at hl 1 rfl) ?_
      refine lv_aload_n hx hb dX5_writeChains_13 rfl (lv_at hl 0 rfl) ?_
      refine va_get (D := (dC, dI)) (ci := 0) (v := .ref (ad 0)) (C := RX5) (T := TX5) (N := 28) hx hb hts in_X5 hown hK hP 0 tw_g rfl 0 (by decide) (hts _ q1986) (fun _ h9 => h9) rfl dX5_writeChains_14 ?_
      refine lv_bipush (v := 6) hx hb dX5_writeChains_17 (by decide) ?_
      obtain ⟨g1, hF⟩ := gd_s hF
      refine va_iald hx hb hK hP 1 0 tw_e0 rfl (inB_in g1) dX5_writeChains_19 ?_
      refine lv_icmp_ge (tgt := 67) hx hb dX5_writeChains_20 (by decide) (fun c2 => ?_) (fun c2 => ?_)
      · replace hF := it_t c2 hF
        refine lv_aload_n hx hb dX5_writeChains_67 rfl (lv_at hl 0 rfl) ?_
        refine va_get (D := (dC, dI)) (ci := 0) (v := .ref (ad 0)) (C := RX5) (T := TX5) (N := 28) hx hb hts in_X5 hown hK hP 0 tw_g rfl 0 (by decide) (hts _ q1986) (fun _ h9 => h9) rfl dX5_writeChains_68 ?_
        refine lv_bipush (v := 7) hx hb dX5_writeChains_71 (by decide) ?_
        obtain ⟨g3, hF⟩ := gd_s hF
        refine va_iald hx hb hK hP 1 0 tw_e0 rfl (inB_in g3) dX5_writeChains_73 ?_
        refine lv_if_le (tgt := 83) hx hb dX5_writeChains_74 (by decide) (fun c4 => ?_) (fun c4 => ?_)
        · replace hF := it_t c4 hF
          refine lv_aload_n hx hb dX5_writeChains_83 rfl (lv_at hl 0 rfl) ?_
          refine va_get (D := (dC, dI)) (ci := 0) (v := .int ((σ).1 27)) (C := RX5) (T := TX5) (N := 28) hx hb hts in_X5 hown hK hP 0 tw_g rfl 27 (by decide) (hts _ q2013) (fun _ h9 => h9) rfl dX5_writeChains_84 ?_
          exact W.iret (v := ((σ).1 27)) hx hb hr (fun t ht hW => ⟨⟨((σ).1 27), σ, rfl, Option.some.inj hF, by rw [ht]; exact hP, va_K.moved hW.alike hK⟩, hS.F ht⟩) hS.2.2 dX5_writeChains_87
        · replace hF := it_f c4 hF
          refine lv_aload_n hx hb dX5_writeChains_77 rfl (lv_at hl 0 rfl) ?_
          refine lv_bipush (v := 33) hx hb dX5_writeChains_78 (by decide) ?_
          obtain ⟨r5, u5, e5, hF⟩ := bnd_s hF
          refine tw_callv (va_runV (As := [.int 33]) (rest := []) ⟨hx, hb, hml, hown, hts⟩ (mt_says l dC dI cI cZ m0 ad H.size σ  33 _ e5) (cwV 1 hts (lw_V q2472 q2474 qs99 q125 q2475) rfl rfl rfl (by decide +kernel) ⟨Nat.le_of_ble_eq_true rfl, Nat.le_of_ble_eq_true rfl⟩) (tw_preV hK hP hD _) rfl rfl hl.1 rfl (lv_room (Nat.le_of_ble_eq_true rfl)) dX5_writeChains_80 ⟨Nat.le_of_ble_eq_true rfl, Nat.le_of_ble_eq_true rfl⟩) hS hD hAA (fun uu H locs hw hP hD hS => ?_)
          obtain rfl : u5 = uu := (congrArg Prod.snd hw).symm
          refine lv_aload_n hx hb dX5_writeChains_83 rfl (lv_at hl 0 rfl) ?_
          refine va_get (D := (dC, dI)) (ci := 0) (v := .int ((u5).1 27)) (C := RX5) (T := TX5) (N := 28) hx hb hts in_X5 hown hK hP 0 tw_g rfl 27 (by decide) (hts _ q2013) (fun _ h9 => h9) rfl dX5_writeChains_84 ?_
          exact W.iret (v := ((u5).1 27)) hx hb hr (fun t ht hW => ⟨⟨((u5).1 27), u5, rfl, Option.some.inj hF, by rw [ht]; exact hP, va_K.moved hW.alike hK⟩, hS.F ht⟩) hS.2.2 dX5_writeChains_87
      · replace hF := it_f c2 hF
        refine lv_iload_n hx hb dX5_writeChains_23 rfl (lv_at hl 1 rfl) ?_
        refine lv_if_le (tgt := 33) hx hb dX5_writeChains_24 (by decide) (fun c6 => ?_) (fun c6 => ?_)
        · replace hF := it_t c6 hF
          refine lv_aload_n hx hb dX5_writeChains_33 rfl (lv_at hl 0 rfl) ?_
          refine lv_bipush (v := 48) hx hb dX5_writeChains_34 (by decide) ?_
          refine lv_aload_n hx hb dX5_writeChains_36 rfl (lv_at hl 0 rfl) ?_
          refine lv_iload_n hx hb dX5_writeChains_37 rfl (lv_at hl 1 rfl) ?_
          obtain ⟨r7, u7, e7, hF⟩ := bnd_s hF
          refine tw_calli (va_runV (As := [.int x1]) (rest := [.int 48, .ref m0]) ⟨hx, hb, hml, hown, hts⟩ (mt_directionsOf l dC dI cI cZ m0 ad H.size σ n  x1 _ e7) (cwV 1 hts (lw_V q2229 q2231 qs64 q125 q2232) rfl rfl rfl (by decide +kernel) ⟨Nat.le_of_ble_eq_true rfl, Nat.le_of_ble_eq_true rfl⟩) (tw_preV hK hP hD _) rfl rfl hl.1 rfl (lv_room (Nat.le_of_ble_eq_true rfl)) dX5_writeChains_38 ⟨Nat.le_of_ble_eq_true rfl, Nat.le_of_ble_eq_true rfl⟩) hS hD hAA (fun rr uu H locs hw hP hD hS => ?_)
          obtain rfl : r7 = rr := (congrArg Prod.fst hw).symm
          obtain rfl : u7 = uu := (congrArg Prod.snd hw).symm
          refine lv_iadd hx hb dX5_writeChains_41 ?_
          obtain ⟨r8, u8, e8, hF⟩ := bnd_s hF
          refine tw_callv (va_runV (As := [.int (48 + r7)]) (rest := []) ⟨hx, hb, hml, hown, hts⟩ (mt_says l dC dI cI cZ m0 ad H.size u7  (48 + r7) _ e8) (cwV 1 hts (lw_V q2472 q2474 qs99 q125 q2475) rfl rfl rfl (by decide +kernel) ⟨Nat.le_of_ble_eq_true rfl, Nat.le_of_ble_eq_true rfl⟩) (tw_preV hK hP hD _) rfl rfl hl.1 rfl (lv_room (Nat.le_of_ble_eq_true rfl)) dX5_writeChains_42 ⟨Nat.le_of_ble_eq_true rfl, Nat.le_of_ble_eq_true rfl⟩) hS hD hAA (fun uu H locs hw hP hD hS => ?_)
          obtain rfl : u8 = uu := (congrArg Prod.snd hw).symm
          refine lv_aload_n hx hb dX5_writeChains_45 rfl (lv_at hl 0 rfl) ?_
          refine lv_aload_n hx hb dX5_writeChains_46 rfl (lv_at hl 0 rfl) ?_
          refine va_get (D := (dC, dI)) (ci := 0) (v := .ref (ad 0)) (C := RX5) (T := TX5) (N := 28) hx hb hts in_X5 hown hK hP 0 tw_g rfl 0 (by decide) (hts _ q1986) (fun _ h9 => h9) rfl dX5_writeChains_47 ?_
          refine lv_bipush (v := 89) hx hb dX5_writeChains_50 (by decide) ?_
          refine lv_iload_n hx hb dX5_writeChains_52 rfl (lv_at hl 1 rfl) ?_
          refine lv_iadd hx hb dX5_writeChains_53 ?_
          obtain ⟨g9, hF⟩ := gd_s hF
          refine va_iald hx hb hK hP 1 0 tw_e0 rfl (inB_in g9) dX5_writeChains_54 ?_
          obtain ⟨r10, u10, e10, hF⟩ := bnd_s hF
          refine tw_calli (va_runS (As := [.int ((u8).2 0 ((89 + x1)).toNatClampNeg)]) (rest := [.ref m0]) ⟨hx, hb, hml, hown, hts⟩ (mt_letterOf l dC dI cI cZ m0 ad H.size u8  ((u8).2 0 ((89 + x1)).toNatClampNeg) _ e10) (va_cwS 1 hts (lw_S q2476 q2477 q125 q2478) rfl rfl rfl (by decide +kernel) ⟨Nat.le_of_ble_eq_true rfl, Nat.le_of_ble_eq_true rfl⟩) (tw_preS hK hP hD _) rfl rfl hl.1 rfl (lv_room (Nat.le_of_ble_eq_true rfl)) dX5_writeChains_55 ⟨Nat.le_of_ble_eq_true rfl, Nat.le_of_ble_eq_true rfl⟩) hS hD hAA (fun rr uu H locs hw hP hD hS => ?_)
          obtain rfl : r10 = rr := (congrArg Prod.fst hw).symm
          obtain rfl : u10 = uu := (congrArg Prod.snd hw).symm
          obtain ⟨r11, u11, e11, hF⟩ := bnd_s hF
          refine tw_callv (va_runV (As := [.int r10]) (rest := []) ⟨hx, hb, hml, hown, hts⟩ (mt_says l dC dI cI cZ m0 ad H.size u10  r10 _ e11) (cwV 1 hts (lw_V q2472 q2474 qs99 q125 q2475) rfl rfl rfl (by decide +kernel) ⟨Nat.le_of_ble_eq_true rfl, Nat.le_of_ble_eq_true rfl⟩) (tw_preV hK hP hD _) rfl rfl hl.1 rfl (lv_room (Nat.le_of_ble_eq_true rfl)) dX5_writeChains_58 ⟨Nat.le_of_ble_eq_true rfl, Nat.le_of_ble_eq_true rfl⟩) hS hD hAA (fun uu H locs hw hP hD hS => ?_)
          obtain rfl : u11 = uu := (congrArg Prod.snd hw).symm
          refine lv_iinc (v := (x1 + 1)) (lv' := [(1, .int (x1 + 1)), (0, .ref m0)]) hx hb dX5_writeChains_61 hl (k := 1) rfl rfl (by decide) rfl (fun ls hl => ?_)
          refine lv_goto (tgt := 12) hx hb dX5_writeChains_64 (by decide) ?_
          exact lp1 u11 (x1 + 1) hF _ _ hP hD hS ls (lv_sub hl [1, 0] rfl)
        · replace hF := it_f c6 hF
          refine lv_aload_n hx hb dX5_writeChains_27 rfl (lv_at hl 0 rfl) ?_
          refine lv_bipush (v := 32) hx hb dX5_writeChains_28 (by decide) ?_
          obtain ⟨r12, u12, e12, hF⟩ := bnd_s hF
          refine tw_callv (va_runV (As := [.int 32]) (rest := []) ⟨hx, hb, hml, hown, hts⟩ (mt_says l dC dI cI cZ m0 ad H.size σ  32 _ e12) (cwV 1 hts (lw_V q2472 q2474 qs99 q125 q2475) rfl rfl rfl (by decide +kernel) ⟨Nat.le_of_ble_eq_true rfl, Nat.le_of_ble_eq_true rfl⟩) (tw_preV hK hP hD _) rfl rfl hl.1 rfl (lv_room (Nat.le_of_ble_eq_true rfl)) dX5_writeChains_30 ⟨Nat.le_of_ble_eq_true rfl, Nat.le_of_ble_eq_true rfl⟩) hS hD hAA (fun uu H locs hw hP hD hS => ?_)
          obtain rfl : u12 = uu := (congrArg Prod.snd hw).symm
          refine lv_aload_n hx hb dX5_writeChains_33 rfl (lv_at hl 0 rfl) ?_
          refine lv_bipush (v := 48) hx hb dX5_writeChains_34 (by decide) ?_
          refine lv_aload_n hx hb dX5_writeChains_36 rfl (lv_at hl 0 rfl) ?_
          refine lv_iload_n hx hb dX5_writeChains_37 rfl (lv_at hl 1 rfl) ?_
          obtain ⟨r13, u13, e13, hF⟩ := bnd_s hF
          refine tw_calli (va_runV (As := [.int x1]) (rest := [.int 48, .ref m0]) ⟨hx, hb, hml, hown, hts⟩ (mt_directionsOf l dC dI cI cZ m0 ad H.size u12 n  x1 _ e13) (cwV 1 hts (lw_V q2229 q2231 qs64 q125 q2232) rfl rfl rfl (by decide +kernel) ⟨Nat.le_of_ble_eq_true rfl, Nat.le_of_ble_eq_true rfl⟩) (tw_preV hK hP hD _) rfl rfl hl.1 rfl (lv_room (Nat.le_of_ble_eq_true rfl)) dX5_writeChains_38 ⟨Nat.le_of_ble_eq_true rfl, Nat.le_of_ble_eq_true rfl⟩) hS hD hAA (fun rr uu H locs hw hP hD hS => ?_)
          obtain rfl : r13 = rr := (congrArg Prod.fst hw).symm
          obtain rfl : u13 = uu := (congrArg Prod.snd hw).symm
          refine lv_iadd hx hb dX5_writeChains_41 ?_
          obtain ⟨r14, u14, e14, hF⟩ := bnd_s hF
          refine tw_callv (va_runV (As := [.int (48 + r13)]) (rest := []) ⟨hx, hb, hml, hown, hts⟩ (mt_says l dC dI cI cZ m0 ad H.size u13  (48 + r13) _ e14) (cwV 1 hts (lw_V q2472 q2474 qs99 q125 q2475) rfl rfl rfl (by decide +kernel) ⟨Nat.le_of_ble_eq_true rfl, Nat.le_of_ble_eq_true rfl⟩) (tw_preV hK hP hD _) rfl rfl hl.1 rfl (lv_room (Nat.le_of_ble_eq_true rfl)) dX5_writeChains_42 ⟨Nat.le_of_ble_eq_true rfl, Nat.le_of_ble_eq_true rfl⟩) hS hD hAA (fun uu H locs hw hP hD hS => ?_)
          obtain rfl : u14 = uu := (congrArg Prod.snd hw).symm
          refine lv_aload_n hx hb dX5_writeChains_45 rfl (lv_at hl 0 rfl) ?_
          refine lv_aload_n hx hb dX5_writeChains_46 rfl (lv_at hl 0 rfl) ?_
          refine va_get (D := (dC, dI)) (ci := 0) (v := .ref (ad 0)) (C := RX5) (T := TX5) (N := 28) hx hb hts in_X5 hown hK hP 0 tw_g rfl 0 (by decide) (hts _ q1986) (fun _ h9 => h9) rfl dX5_writeChains_47 ?_
          refine lv_bipush (v := 89) hx hb dX5_writeChains_50 (by decide) ?_
          refine lv_iload_n hx hb dX5_writeChains_52 rfl (lv_at hl 1 rfl) ?_
          refine lv_iadd hx hb dX5_writeChains_53 ?_
          obtain ⟨g15, hF⟩ := gd_s hF
          refine va_iald hx hb hK hP 1 0 tw_e0 rfl (inB_in g15) dX5_writeChains_54 ?_
          obtain ⟨r16, u16, e16, hF⟩ := bnd_s hF
          refine tw_calli (va_runS (As := [.int ((u14).2 0 ((89 + x1)).toNatClampNeg)]) (rest := [.ref m0]) ⟨hx, hb, hml, hown, hts⟩ (mt_letterOf l dC dI cI cZ m0 ad H.size u14  ((u14).2 0 ((89 + x1)).toNatClampNeg) _ e16) (va_cwS 1 hts (lw_S q2476 q2477 q125 q2478) rfl rfl rfl (by decide +kernel) ⟨Nat.le_of_ble_eq_true rfl, Nat.le_of_ble_eq_true rfl⟩) (tw_preS hK hP hD _) rfl rfl hl.1 rfl (lv_room (Nat.le_of_ble_eq_true rfl)) dX5_writeChains_55 ⟨Nat.le_of_ble_eq_true rfl, Nat.le_of_ble_eq_true rfl⟩) hS hD hAA (fun rr uu H locs hw hP hD hS => ?_)
          obtain rfl : r16 = rr := (congrArg Prod.fst hw).symm
          obtain rfl : u16 = uu := (congrArg Prod.snd hw).symm
          obtain ⟨r17, u17, e17, hF⟩ := bnd_s hF
          refine tw_callv (va_runV (As := [.int r16]) (rest := []) ⟨hx, hb, hml, hown, hts⟩ (mt_says l dC dI cI cZ m0 ad H.size u16  r16 _ e17) (cwV 1 hts (lw_V q2472 q2474 qs99 q125 q2475) rfl rfl rfl (by decide +kernel) ⟨Nat.le_of_ble_eq_true rfl, Nat.le_of_ble_eq_true rfl⟩) (tw_preV hK hP hD _) rfl rfl hl.1 rfl (lv_room (Nat.le_of_ble_eq_true rfl)) dX5_writeChains_58 ⟨Nat.le_of_ble_eq_true rfl, Nat.le_of_ble_eq_true rfl⟩) hS hD hAA (fun uu H locs hw hP hD hS => ?_)
          obtain rfl : u17 = uu := (congrArg Prod.snd hw).symm
          refine lv_iinc (v := (x1 + 1)) (lv' := [(1, .int (x1 + 1)), (0, .ref m0)]) hx hb dX5_writeChains_61 hl (k := 1) rfl rfl (by decide) rfl (fun ls hl => ?_)
          refine lv_goto (tgt := 12) hx hb dX5_writeChains_64 (by decide) ?_
          exact lp1 u17 (x1 + 1) hF _ _ hP hD hS ls (lv_sub hl [1, 0] rfl)
  have lp1 := loop n
  unfold F_writeChains F_writeChains_0 at hF
  refine lv_aload_n hx hb dX5_writeChains_0 rfl (lv_at hl 0 rfl) ?_
  refine lv_iconst (v := 0) hx hb dX5_writeChains_1 (by decide) ?_
  refine va_put (D := (dC, dI)) (ci := 0) (v := .int 0) (ty := .int) (C := RX5) (T := TX5) (N := 28) hx hb hts in_X5 tyX5 tyX5_ok nmX5 hown hK hP hD hS 0 tw_g rfl 6 (by decide) (hts _ q1992) (fun _ h9 => h9) rfl (tyX5_ok 6 (by decide)) rfl rfl (Nat.le_of_ble_eq_true rfl) dX5_writeChains_2 (fun H locs hP hD hS => ?_)
  rw [tw_p6] at hP hD
  refine lv_aload_n hx hb dX5_writeChains_5 rfl (lv_at hl 0 rfl) ?_
  refine lv_iconst (v := 0) hx hb dX5_writeChains_6 (by decide) ?_
  refine va_put (D := (dC, dI)) (ci := 0) (v := .int 0) (ty := .int) (C := RX5) (T := TX5) (N := 28) hx hb hts in_X5 tyX5 tyX5_ok nmX5 hown hK hP hD hS 0 tw_g rfl 27 (by decide) (hts _ q2013) (fun _ h9 => h9) rfl (tyX5_ok 27 (by decide)) rfl rfl (Nat.le_of_ble_eq_true rfl) dX5_writeChains_7 (fun H locs hP hD hS => ?_)
  rw [tw_p27] at hP hD
  refine lv_iconst (v := 0) hx hb dX5_writeChains_10 (by decide) ?_
  refine lv_istore_n (lv' := [(1, .int 0), (0, .ref m0)]) hx hb dX5_writeChains_11 rfl hl (by decide) rfl (fun ls hl => ?_)
  exact lp1 (tw_sf (tw_sf σ 6 0) 27 0) 0 hF _ _ hP hD hS ls (lv_sub hl [1, 0] rfl)

def F_writtenByte (σ : Tw) (p1 : Int32) : Option (Int32 × Tw) := bnd (F_isIn σ p1 0 (((σ).1 27) - 1)) (fun r1 u1 => if r1 = 0 then if (((tw_sf u1 6 1)).1 6) ≤ 0 then gd (inB p1 40) (some ((((tw_sf u1 6 1)).2 26 (p1).toNatClampNeg), (tw_sf u1 6 1))) else some (0, (tw_sf u1 6 1)) else if (((tw_sf u1 6 0)).1 6) ≤ 0 then gd (inB p1 40) (some ((((tw_sf u1 6 0)).2 26 (p1).toNatClampNeg), (tw_sf u1 6 0))) else some (0, (tw_sf u1 6 0)))
set_option maxHeartbeats 4000000 in
set_option maxRecDepth 100000 in
theorem mt_writtenByte (l : Launch) (dC : Nat → ClassId) (dI : Nat → Nat → Nat) (cI cZ : ClassId) (m0 : Nat) (ad : Nat → Nat) (sz : Nat) (σ : Tw)  (p1 : Int32) (out : Int32 × Tw) (hF : F_writtenByte σ p1 = some out) : Met l yX5_writtenByte (ws_ yX5_writtenByte cX5_writtenByte 2 (some .int)) ({ frames := 1, cells := 0, slots := 0, locals := 22 }) (va_Pc [.ref m0, .int p1] (tw_Pre dC dI cI cZ m0 ad sz σ)) (va_Qi (fun r u => (r, u) = out) (tw_B dC dI cI cZ m0 ad) (tw_A m0 ad sz)) 0 0 (tw_A m0 ad sz) := by
  refine Met.ofW (cc := cX5_writtenByte) (maxL := 2) (ret := (some .int)) (by decide +kernel) rfl ?_
  intro p e s m args below meth c s₁ B hml hv
  obtain ⟨rfl, hsz, hP, hK, hD0⟩ := hv
  have hx := B.exec
  have hb := B.bytes
  have hr := B.returns
  have hts := atoms_spec (ws := (ws_ yX5_writtenByte cX5_writtenByte 2 (some .int))) B.pre
  have hts : ∀ w ∈ lw_all, w.before _ s = true := fun w h => hts w (List.mem_cons_of_mem _ h)
  have hown : s.vm.findClass RX5 = some m.cls := findClass_of_methodNamed B.named
  have hlocks := B.notSynchronized
  subst hsz
  have hD := tw_Ds (z := s.heap.size) hD0
  have hAA := fun z (h : s.heap.size ≤ z) => tw_Am (m0 := m0) (ad := ad) h
  generalize hAe : tw_A m0 ad s.heap.size = A at hD hAA ⊢
  have hS : va_S A s.heap s.heap [] := va_S.rf
  have hP : va_P (dC, dI) vwCl (tw_ws m0 ad cI cZ σ) s.heap := hP
  have hl := lv_entry ([.ref m0, .int p1]) (n := 2) (Nat.le_of_ble_eq_true rfl)
  rw [lg_entry_eq]
  generalize (lg_sl ([.ref m0, .int p1]) ++ List.replicate (2 - (lg_sl ([.ref m0, .int p1])).length) Slot.unset).toArray = ls at hl ⊢
  have hl : lv_has ls 2 [(0, .ref m0), (1, .int p1)] := hl
  unfold F_writtenByte at hF
  refine lv_aload_n hx hb dX5_writtenByte_0 rfl (lv_at hl 0 rfl) ?_
  refine lv_iload_n hx hb dX5_writtenByte_1 rfl (lv_at hl 1 rfl) ?_
  refine lv_iconst (v := 0) hx hb dX5_writtenByte_2 (by decide) ?_
  refine lv_aload_n hx hb dX5_writtenByte_3 rfl (lv_at hl 0 rfl) ?_
  refine va_get (D := (dC, dI)) (ci := 0) (v := .int ((σ).1 27)) (C := RX5) (T := TX5) (N := 28) hx hb hts in_X5 hown hK hP 0 tw_g rfl 27 (by decide) (hts _ q2013) (fun _ h9 => h9) rfl dX5_writtenByte_4 ?_
  refine lv_iconst (v := 1) hx hb dX5_writtenByte_7 (by decide) ?_
  refine lv_isub hx hb dX5_writtenByte_8 ?_
  obtain ⟨r1, u1, e1, hF⟩ := bnd_s hF
  refine tw_calli (va_runS (As := [.int p1, .int 0, .int (((σ).1 27) - 1)]) (rest := [.ref m0]) ⟨hx, hb, hml, hown, hts⟩ (mt_isIn l dC dI cI cZ m0 ad s.heap.size σ  p1 0 (((σ).1 27) - 1) _ e1) (va_cwS 3 hts (lw_S q2084 q2085 q125 q2086) rfl rfl rfl (by decide +kernel) ⟨Nat.le_of_ble_eq_true rfl, Nat.le_of_ble_eq_true rfl⟩) (tw_preS hK hP hD _) rfl rfl hl.1 rfl (lv_room (Nat.le_of_ble_eq_true rfl)) dX5_writtenByte_9 ⟨Nat.le_of_ble_eq_true rfl, Nat.le_of_ble_eq_true rfl⟩) hS hD hAA (fun rr uu H locs hw hP hD hS => ?_)
  obtain rfl : r1 = rr := (congrArg Prod.fst hw).symm
  obtain rfl : u1 = uu := (congrArg Prod.snd hw).symm
  refine lv_if_eq (tgt := 19) hx hb dX5_writtenByte_12 (by decide) (fun c2 => ?_) (fun c2 => ?_)
  · replace hF := it_t c2 hF
    refine lv_iconst (v := 1) hx hb dX5_writtenByte_19 (by decide) ?_
    refine va_put (D := (dC, dI)) (ci := 0) (v := .int 1) (ty := .int) (C := RX5) (T := TX5) (N := 28) hx hb hts in_X5 tyX5 tyX5_ok nmX5 hown hK hP hD hS 0 tw_g rfl 6 (by decide) (hts _ q1992) (fun _ h9 => h9) rfl (tyX5_ok 6 (by decide)) rfl rfl (Nat.le_of_ble_eq_true rfl) dX5_writtenByte_20 (fun H locs hP hD hS => ?_)
    rw [tw_p6] at hP hD
    refine lv_aload_n hx hb dX5_writtenByte_23 rfl (lv_at hl 0 rfl) ?_
    refine va_get (D := (dC, dI)) (ci := 0) (v := .int (((tw_sf u1 6 1)).1 6)) (C := RX5) (T := TX5) (N := 28) hx hb hts in_X5 hown hK hP 0 tw_g rfl 6 (by decide) (hts _ q1992) (fun _ h9 => h9) rfl dX5_writtenByte_24 ?_
    refine lv_if_le (tgt := 34) hx hb dX5_writtenByte_27 (by decide) (fun c3 => ?_) (fun c3 => ?_)
    · replace hF := it_t c3 hF
      refine lv_aload_n hx hb dX5_writtenByte_34 rfl (lv_at hl 0 rfl) ?_
      refine va_get (D := (dC, dI)) (ci := 0) (v := .ref (ad 26)) (C := RX5) (T := TX5) (N := 28) hx hb hts in_X5 hown hK hP 0 tw_g rfl 26 (by decide) (hts _ q2012) (fun _ h9 => h9) rfl dX5_writtenByte_35 ?_
      refine lv_iload_n hx hb dX5_writtenByte_38 rfl (lv_at hl 1 rfl) ?_
      obtain ⟨g4, hF⟩ := gd_s hF
      refine va_iald hx hb hK hP 14 0 tw_e26 rfl (inB_in g4) dX5_writtenByte_39 ?_
      exact W.iret (v := (((tw_sf u1 6 1)).2 26 (p1).toNatClampNeg)) hx hb hr (fun t ht hW => ⟨⟨(((tw_sf u1 6 1)).2 26 (p1).toNatClampNeg), (tw_sf u1 6 1), rfl, Option.some.inj hF, by rw [ht]; exact hP, va_K.moved hW.alike hK⟩, hS.F ht⟩) hS.2.2 dX5_writtenByte_40
    · replace hF := it_f c3 hF
      refine lv_iconst (v := 0) hx hb dX5_writtenByte_30 (by decide) ?_
      refine lv_goto (tgt := 40) hx hb dX5_writtenByte_31 (by decide) ?_
      exact W.iret (v := 0) hx hb hr (fun t ht hW => ⟨⟨0, (tw_sf u1 6 1), rfl, Option.some.inj hF, by rw [ht]; exact hP, va_K.moved hW.alike hK⟩, hS.F ht⟩) hS.2.2 dX5_writtenByte_40
  · replace hF := it_f c2 hF
    refine lv_iconst (v := 0) hx hb dX5_writtenByte_15 (by decide) ?_
    refine lv_goto (tgt := 20) hx hb dX5_writtenByte_16 (by decide) ?_
    refine va_put (D := (dC, dI)) (ci := 0) (v := .int 0) (ty := .int) (C := RX5) (T := TX5) (N := 28) hx hb hts in_X5 tyX5 tyX5_ok nmX5 hown hK hP hD hS 0 tw_g rfl 6 (by decide) (hts _ q1992) (fun _ h9 => h9) rfl (tyX5_ok 6 (by decide)) rfl rfl (Nat.le_of_ble_eq_true rfl) dX5_writtenByte_20 (fun H locs hP hD hS => ?_)
    rw [tw_p6] at hP hD
    refine lv_aload_n hx hb dX5_writtenByte_23 rfl (lv_at hl 0 rfl) ?_
    refine va_get (D := (dC, dI)) (ci := 0) (v := .int (((tw_sf u1 6 0)).1 6)) (C := RX5) (T := TX5) (N := 28) hx hb hts in_X5 hown hK hP 0 tw_g rfl 6 (by decide) (hts _ q1992) (fun _ h9 => h9) rfl dX5_writtenByte_24 ?_
    refine lv_if_le (tgt := 34) hx hb dX5_writtenByte_27 (by decide) (fun c5 => ?_) (fun c5 => ?_)
    · replace hF := it_t c5 hF
      refine lv_aload_n hx hb dX5_writtenByte_34 rfl (lv_at hl 0 rfl) ?_
      refine va_get (D := (dC, dI)) (ci := 0) (v := .ref (ad 26)) (C := RX5) (T := TX5) (N := 28) hx hb hts in_X5 hown hK hP 0 tw_g rfl 26 (by decide) (hts _ q2012) (fun _ h9 => h9) rfl dX5_writtenByte_35 ?_
      refine lv_iload_n hx hb dX5_writtenByte_38 rfl (lv_at hl 1 rfl) ?_
      obtain ⟨g6, hF⟩ := gd_s hF
      refine va_iald hx hb hK hP 14 0 tw_e26 rfl (inB_in g6) dX5_writtenByte_39 ?_
      exact W.iret (v := (((tw_sf u1 6 0)).2 26 (p1).toNatClampNeg)) hx hb hr (fun t ht hW => ⟨⟨(((tw_sf u1 6 0)).2 26 (p1).toNatClampNeg), (tw_sf u1 6 0), rfl, Option.some.inj hF, by rw [ht]; exact hP, va_K.moved hW.alike hK⟩, hS.F ht⟩) hS.2.2 dX5_writtenByte_40
    · replace hF := it_f c5 hF
      refine lv_iconst (v := 0) hx hb dX5_writtenByte_30 (by decide) ?_
      refine lv_goto (tgt := 40) hx hb dX5_writtenByte_31 (by decide) ?_
      exact W.iret (v := 0) hx hb hr (fun t ht hW => ⟨⟨0, (tw_sf u1 6 0), rfl, Option.some.inj hF, by rw [ht]; exact hP, va_K.moved hW.alike hK⟩, hS.F ht⟩) hS.2.2 dX5_writtenByte_40
