/-! the reference's methods, walked by program (tool/cw.py): F_ the pure function, mt_ the contract -/
def F_judges_1 (R : Nat → Tw → Int32 → Option (Int32 × Tw)) (n : Nat) (σ : Tw) (x1 : Int32) : Option (Int32 × Tw) := gd (inB 1 162) (if ((σ).2 0 (1 : Int32).toNatClampNeg) ≤ x1 then gd (inB 5 162) (gd (inB 6 162) (gd (inB (81 + ((σ).2 0 (5 : Int32).toNatClampNeg)) 162) (gd (inB 5 162) (gd (inB 5 162) (gd (inB 5 162) (gd (inB 1 162) (if (((tw_sa (tw_sa σ 0 ((81 + ((σ).2 0 (5 : Int32).toNatClampNeg))).toNatClampNeg (((σ).2 0 (6 : Int32).toNatClampNeg) - 1)) 0 (5 : Int32).toNatClampNeg ((((tw_sa σ 0 ((81 + ((σ).2 0 (5 : Int32).toNatClampNeg))).toNatClampNeg (((σ).2 0 (6 : Int32).toNatClampNeg) - 1))).2 0 (5 : Int32).toNatClampNeg) + 1))).2 0 (5 : Int32).toNatClampNeg) = (((tw_sa (tw_sa σ 0 ((81 + ((σ).2 0 (5 : Int32).toNatClampNeg))).toNatClampNeg (((σ).2 0 (6 : Int32).toNatClampNeg) - 1)) 0 (5 : Int32).toNatClampNeg ((((tw_sa σ 0 ((81 + ((σ).2 0 (5 : Int32).toNatClampNeg))).toNatClampNeg (((σ).2 0 (6 : Int32).toNatClampNeg) - 1))).2 0 (5 : Int32).toNatClampNeg) + 1))).2 0 (1 : Int32).toNatClampNeg) then gd (inB 7 162) (gd (inB 7 162) (some ((((tw_sa (tw_sa (tw_sa σ 0 ((81 + ((σ).2 0 (5 : Int32).toNatClampNeg))).toNatClampNeg (((σ).2 0 (6 : Int32).toNatClampNeg) - 1)) 0 (5 : Int32).toNatClampNeg ((((tw_sa σ 0 ((81 + ((σ).2 0 (5 : Int32).toNatClampNeg))).toNatClampNeg (((σ).2 0 (6 : Int32).toNatClampNeg) - 1))).2 0 (5 : Int32).toNatClampNeg) + 1)) 0 (7 : Int32).toNatClampNeg 4)).2 0 (7 : Int32).toNatClampNeg), (tw_sa (tw_sa (tw_sa σ 0 ((81 + ((σ).2 0 (5 : Int32).toNatClampNeg))).toNatClampNeg (((σ).2 0 (6 : Int32).toNatClampNeg) - 1)) 0 (5 : Int32).toNatClampNeg ((((tw_sa σ 0 ((81 + ((σ).2 0 (5 : Int32).toNatClampNeg))).toNatClampNeg (((σ).2 0 (6 : Int32).toNatClampNeg) - 1))).2 0 (5 : Int32).toNatClampNeg) + 1)) 0 (7 : Int32).toNatClampNeg 4)))) else gd (inB 7 162) (gd (inB 7 162) (some ((((tw_sa (tw_sa (tw_sa σ 0 ((81 + ((σ).2 0 (5 : Int32).toNatClampNeg))).toNatClampNeg (((σ).2 0 (6 : Int32).toNatClampNeg) - 1)) 0 (5 : Int32).toNatClampNeg ((((tw_sa σ 0 ((81 + ((σ).2 0 (5 : Int32).toNatClampNeg))).toNatClampNeg (((σ).2 0 (6 : Int32).toNatClampNeg) - 1))).2 0 (5 : Int32).toNatClampNeg) + 1)) 0 (7 : Int32).toNatClampNeg 0)).2 0 (7 : Int32).toNatClampNeg), (tw_sa (tw_sa (tw_sa σ 0 ((81 + ((σ).2 0 (5 : Int32).toNatClampNeg))).toNatClampNeg (((σ).2 0 (6 : Int32).toNatClampNeg) - 1)) 0 (5 : Int32).toNatClampNeg ((((tw_sa σ 0 ((81 + ((σ).2 0 (5 : Int32).toNatClampNeg))).toNatClampNeg (((σ).2 0 (6 : Int32).toNatClampNeg) - 1))).2 0 (5 : Int32).toNatClampNeg) + 1)) 0 (7 : Int32).toNatClampNeg 0))))))))))) else gd (inB 5 162) (gd (inB x1 8) (gd (inB ((98 + (8 * ((σ).2 0 (5 : Int32).toNatClampNeg))) + x1) 162) (R 1 (tw_sa σ 0 (((98 + (8 * ((σ).2 0 (5 : Int32).toNatClampNeg))) + x1)).toNatClampNeg ((σ).2 19 (x1).toNatClampNeg)) (x1 + 1)))))
def F_judges_r : Nat → Nat → Tw → Int32 → Option (Int32 × Tw)
  | 0 => fun _ _ _ => none
  | n + 1 => fun k => match k with  | _ => F_judges_1 (F_judges_r n) n
def F_judges_0 (R : Nat → Tw → Int32 → Option (Int32 × Tw)) (n : Nat) (σ : Tw) : Option (Int32 × Tw) := bnd (F_isZero n σ ) (fun r1 u1 => if r1 = 0 then bnd (F_ownProduct n u1 ) (fun r3 u3 => if r3 = 0 then bnd (F_ends u3 2) (fun r5 u5 => some (r5, u5)) else R 1 u3 0) else bnd (F_ends u1 1) (fun r6 u6 => some (r6, u6)))
def F_judges (n : Nat) (σ : Tw) : Option (Int32 × Tw) := F_judges_0 (F_judges_r n) n σ 
set_option maxHeartbeats 4000000 in
set_option maxRecDepth 100000 in
theorem mt_judges (l : Launch) (dC : Nat → ClassId) (dI : Nat → Nat → Nat) (cI cZ : ClassId) (m0 : Nat) (ad : Nat → Nat) (sz : Nat) (σ : Tw) (n : Nat)  (out : Int32 × Tw) (hF : F_judges n σ  = some out) : Met l yX5_judges (ws_ yX5_judges cX5_judges 2 (some .int)) ({ frames := 3, cells := 0, slots := 0, locals := 65 }) (va_Pc [.ref m0] (tw_Pre dC dI cI cZ m0 ad sz σ)) (va_Qi (fun r u => (r, u) = out) (tw_B dC dI cI cZ m0 ad) (tw_A m0 ad sz)) 0 0 (tw_A m0 ad sz) := by
  refine Met.ofW (cc := cX5_judges) (maxL := 2) (ret := (some .int)) (by decide +kernel) rfl ?_
  intro p e s m args below meth c s₁ B hml hv
  obtain ⟨rfl, hsz, hP, hK, hD0⟩ := hv
  have hx := B.exec
  have hb := B.bytes
  have hr := B.returns
  have hts := atoms_spec (ws := (ws_ yX5_judges cX5_judges 2 (some .int))) B.pre
  have hts : ∀ w ∈ lw_all, w.before _ s = true := fun w h => hts w (List.mem_cons_of_mem _ h)
  have hown : s.vm.findClass RX5 = some m.cls := findClass_of_methodNamed B.named
  have hlocks := B.notSynchronized
  subst hsz
  have hD := tw_Ds (z := s.heap.size) hD0
  have hAA := fun z (h : s.heap.size ≤ z) => tw_Am (m0 := m0) (ad := ad) h
  generalize hAe : tw_A m0 ad s.heap.size = A at hD hAA ⊢
  have hS : va_S A s.heap s.heap [] := va_S.rf
  have hP : va_P (dC, dI) vwCl (tw_ws m0 ad cI cZ σ) s.heap := hP
  have hl := lv_entry ([.ref m0]) (n := 2) (Nat.le_of_ble_eq_true rfl)
  rw [lg_entry_eq]
  generalize (lg_sl ([.ref m0]) ++ List.replicate (2 - (lg_sl ([.ref m0])).length) Slot.unset).toArray = ls at hl ⊢
  have hl : lv_has ls 2 [(0, .ref m0)] := hl
  have loop : ∀ n : Nat, (∀ (σ : Tw) (x1 : Int32), F_judges_r n 1 σ x1 = some out → ∀ (H : Heap) (locs : List Loc), va_P (dC, dI) vwCl (tw_ws m0 ad cI cZ σ) H → va_D A (tw_ws m0 ad cI cZ σ) → va_S A s.heap H locs → ∀ ls : Array Slot, lv_has ls 2 [(0, .ref m0), (1, .int x1)] → W p l e (headSpec (ws_ yX5_judges cX5_judges 2 (some .int)) ({ frames := 3, cells := 0, slots := 0, locals := 65 })).room s m ([.ref m0] : List Value).toArray below meth c H locs 0 0 (MQ below (va_Qi (fun r u => (r, u) = out) (tw_B dC dI cI cZ m0 ad) A) ([.ref m0] : List Value).toArray s 0 0 A) (F0 m 28 ls [])) := by
    intro n
    induction n with
    | zero => exact (fun _ _ h => nomatch h)
    | succ n ih =>
      have lp1 := ih
      intro σ x1 hF H locs hP hD hS ls hl
      replace hF : F_judges_1 (F_judges_r n) n σ x1 = some out := hF
      unfold F_judges_1 at hF
      refine lv_iload_n hx hb dX5_judges_28 rfl (lv_at hl 1 rfl) ?_
      refine lv_aload_n hx hb dX5_judges_29 rfl (lv_at hl 0 rfl) ?_
      refine va_get (D := (dC, dI)) (ci := 0) (v := .ref (ad 0)) (C := RX5) (T := TX5) (N := 28) hx hb hts in_X5 hown hK hP 0 tw_g rfl 0 (by decide) (hts _ q1986) (fun _ h9 => h9) rfl dX5_judges_30 ?_
      refine lv_iconst (v := 1) hx hb dX5_judges_33 (by decide) ?_
      obtain ⟨g7, hF⟩ := gd_s hF
      refine va_iald hx hb hK hP 1 0 tw_e0 rfl (inB_in g7) dX5_judges_34 ?_
      refine lv_icmp_ge (tgt := 69) hx hb dX5_judges_35 (by decide) (fun c8 => ?_) (fun c8 => ?_)
      · replace hF := it_t c8 hF
        refine lv_aload_n hx hb dX5_judges_69 rfl (lv_at hl 0 rfl) ?_
        refine va_get (D := (dC, dI)) (ci := 0) (v := .ref (ad 0)) (C := RX5) (T := TX5) (N := 28) hx hb hts in_X5 hown hK hP 0 tw_g rfl 0 (by decide) (hts _ q1986) (fun _ h9 => h9) rfl dX5_judges_70 ?_
        refine lv_bipush (v := 81) hx hb dX5_judges_73 (by decide) ?_
        refine lv_aload_n hx hb dX5_judges_75 rfl (lv_at hl 0 rfl) ?_
        refine va_get (D := (dC, dI)) (ci := 0) (v := .ref (ad 0)) (C := RX5) (T := TX5) (N := 28) hx hb hts in_X5 hown hK hP 0 tw_g rfl 0 (by decide) (hts _ q1986) (fun _ h9 => h9) rfl dX5_judges_76 ?_
        refine lv_iconst (v := 5) hx hb dX5_judges_79 (by decide) ?_
        obtain ⟨g9, hF⟩ := gd_s hF
        refine va_iald hx hb hK hP 1 0 tw_e0 rfl (inB_in g9) dX5_judges_80 ?_
        refine lv_iadd hx hb dX5_judges_81 ?_
        refine lv_aload_n hx hb dX5_judges_82 rfl (lv_at hl 0 rfl) ?_
        refine va_get (D := (dC, dI)) (ci := 0) (v := .ref (ad 0)) (C := RX5) (T := TX5) (N := 28) hx hb hts in_X5 hown hK hP 0 tw_g rfl 0 (by decide) (hts _ q1986) (fun _ h9 => h9) rfl dX5_judges_83 ?_
        refine lv_bipush (v := 6) hx hb dX5_judges_86 (by decide) ?_
        obtain ⟨g10, hF⟩ := gd_s hF
        refine va_iald hx hb hK hP 1 0 tw_e0 rfl (inB_in g10) dX5_judges_88 ?_
        refine lv_iconst (v := 1) hx hb dX5_judges_89 (by decide) ?_
        refine lv_isub hx hb dX5_judges_90 ?_
        obtain ⟨g11, hF⟩ := gd_s hF
        refine va_iast hx hb hK hP hD hS 1 0 tw_e0 rfl (x := (((σ).2 0 (6 : Int32).toNatClampNeg) - 1)) (inB_in g11) dX5_judges_91 (fun H locs hP hD hS => ?_)
        rw [tw_s0] at hP hD
        refine lv_aload_n hx hb dX5_judges_92 rfl (lv_at hl 0 rfl) ?_
        refine va_get (D := (dC, dI)) (ci := 0) (v := .ref (ad 0)) (C := RX5) (T := TX5) (N := 28) hx hb hts in_X5 hown hK hP 0 tw_g rfl 0 (by decide) (hts _ q1986) (fun _ h9 => h9) rfl dX5_judges_93 ?_
        refine lv_iconst (v := 5) hx hb dX5_judges_96 (by decide) ?_
        refine lv_dup2_11 hx hb dX5_judges_97 rfl rfl ?_
        obtain ⟨g12, hF⟩ := gd_s hF
        refine va_iald hx hb hK hP 1 0 tw_e0 rfl (inB_in g12) dX5_judges_98 ?_
        refine lv_iconst (v := 1) hx hb dX5_judges_99 (by decide) ?_
        refine lv_iadd hx hb dX5_judges_100 ?_
        obtain ⟨g13, hF⟩ := gd_s hF
        refine va_iast hx hb hK hP hD hS 1 0 tw_e0 rfl (x := ((((tw_sa σ 0 ((81 + ((σ).2 0 (5 : Int32).toNatClampNeg))).toNatClampNeg (((σ).2 0 (6 : Int32).toNatClampNeg) - 1))).2 0 (5 : Int32).toNatClampNeg) + 1)) (inB_in g13) dX5_judges_101 (fun H locs hP hD hS => ?_)
        rw [tw_s0] at hP hD
        refine lv_aload_n hx hb dX5_judges_102 rfl (lv_at hl 0 rfl) ?_
        refine va_get (D := (dC, dI)) (ci := 0) (v := .ref (ad 0)) (C := RX5) (T := TX5) (N := 28) hx hb hts in_X5 hown hK hP 0 tw_g rfl 0 (by decide) (hts _ q1986) (fun _ h9 => h9) rfl dX5_judges_103 ?_
        refine lv_bipush (v := 7) hx hb dX5_judges_106 (by decide) ?_
        refine lv_aload_n hx hb dX5_judges_108 rfl (lv_at hl 0 rfl) ?_
        refine va_get (D := (dC, dI)) (ci := 0) (v := .ref (ad 0)) (C := RX5) (T := TX5) (N := 28) hx hb hts in_X5 hown hK hP 0 tw_g rfl 0 (by decide) (hts _ q1986) (fun _ h9 => h9) rfl dX5_judges_109 ?_
        refine lv_iconst (v := 5) hx hb dX5_judges_112 (by decide) ?_
        obtain ⟨g14, hF⟩ := gd_s hF
        refine va_iald hx hb hK hP 1 0 tw_e0 rfl (inB_in g14) dX5_judges_113 ?_
        refine lv_aload_n hx hb dX5_judges_114 rfl (lv_at hl 0 rfl) ?_
        refine va_get (D := (dC, dI)) (ci := 0) (v := .ref (ad 0)) (C := RX5) (T := TX5) (N := 28) hx hb hts in_X5 hown hK hP 0 tw_g rfl 0 (by decide) (hts _ q1986) (fun _ h9 => h9) rfl dX5_judges_115 ?_
        refine lv_iconst (v := 1) hx hb dX5_judges_118 (by decide) ?_
        obtain ⟨g15, hF⟩ := gd_s hF
        refine va_iald hx hb hK hP 1 0 tw_e0 rfl (inB_in g15) dX5_judges_119 ?_
        refine lv_icmp_ne (tgt := 127) hx hb dX5_judges_120 (by decide) (fun c16 => ?_) (fun c16 => ?_)
        · replace hF := it_f c16 hF
          refine lv_iconst (v := 0) hx hb dX5_judges_127 (by decide) ?_
          obtain ⟨g17, hF⟩ := gd_s hF
          refine va_iast hx hb hK hP hD hS 1 0 tw_e0 rfl (x := 0) (inB_in g17) dX5_judges_128 (fun H locs hP hD hS => ?_)
          rw [tw_s0] at hP hD
          refine lv_aload_n hx hb dX5_judges_129 rfl (lv_at hl 0 rfl) ?_
          refine va_get (D := (dC, dI)) (ci := 0) (v := .ref (ad 0)) (C := RX5) (T := TX5) (N := 28) hx hb hts in_X5 hown hK hP 0 tw_g rfl 0 (by decide) (hts _ q1986) (fun _ h9 => h9) rfl dX5_judges_130 ?_
          refine lv_bipush (v := 7) hx hb dX5_judges_133 (by decide) ?_
          obtain ⟨g18, hF⟩ := gd_s hF
          refine va_iald hx hb hK hP 1 0 tw_e0 rfl (inB_in g18) dX5_judges_135 ?_
          exact W.iret (v := (((tw_sa (tw_sa (tw_sa σ 0 ((81 + ((σ).2 0 (5 : Int32).toNatClampNeg))).toNatClampNeg (((σ).2 0 (6 : Int32).toNatClampNeg) - 1)) 0 (5 : Int32).toNatClampNeg ((((tw_sa σ 0 ((81 + ((σ).2 0 (5 : Int32).toNatClampNeg))).toNatClampNeg (((σ).2 0 (6 : Int32).toNatClampNeg) - 1))).2 0 (5 : Int32).toNatClampNeg) + 1)) 0 (7 : Int32).toNatClampNeg 0)).2 0 (7 : Int32).toNatClampNeg)) hx hb hr (fun t ht hW => ⟨⟨(((tw_sa (tw_sa (tw_sa σ 0 ((81 + ((σ).2 0 (5 : Int32).toNatClampNeg))).toNatClampNeg (((σ).2 0 (6 : Int32).toNatClampNeg) - 1)) 0 (5 : Int32).toNatClampNeg ((((tw_sa σ 0 ((81 + ((σ).2 0 (5 : Int32).toNatClampNeg))).toNatClampNeg (((σ).2 0 (6 : Int32).toNatClampNeg) - 1))).2 0 (5 : Int32).toNatClampNeg) + 1)) 0 (7 : Int32).toNatClampNeg 0)).2 0 (7 : Int32).toNatClampNeg), (tw_sa (tw_sa (tw_sa σ 0 ((81 + ((σ).2 0 (5 : Int32).toNatClampNeg))).toNatClampNeg (((σ).2 0 (6 : Int32).toNatClampNeg) - 1)) 0 (5 : Int32).toNatClampNeg ((((tw_sa σ 0 ((81 + ((σ).2 0 (5 : Int32).toNatClampNeg))).toNatClampNeg (((σ).2 0 (6 : Int32).toNatClampNeg) - 1))).2 0 (5 : Int32).toNatClampNeg) + 1)) 0 (7 : Int32).toNatClampNeg 0), rfl, Option.some.inj hF, by rw [ht]; exact hP, va_K.moved hW.alike hK⟩, hS.F ht⟩) hS.2.2 dX5_judges_136
        · replace hF := it_t c16 hF
          refine lv_iconst (v := 4) hx hb dX5_judges_123 (by decide) ?_
          refine lv_goto (tgt := 128) hx hb dX5_judges_124 (by decide) ?_
          obtain ⟨g19, hF⟩ := gd_s hF
          refine va_iast hx hb hK hP hD hS 1 0 tw_e0 rfl (x := 4) (inB_in g19) dX5_judges_128 (fun H locs hP hD hS => ?_)
          rw [tw_s0] at hP hD
          refine lv_aload_n hx hb dX5_judges_129 rfl (lv_at hl 0 rfl) ?_
          refine va_get (D := (dC, dI)) (ci := 0) (v := .ref (ad 0)) (C := RX5) (T := TX5) (N := 28) hx hb hts in_X5 hown hK hP 0 tw_g rfl 0 (by decide) (hts _ q1986) (fun _ h9 => h9) rfl dX5_judges_130 ?_
          refine lv_bipush (v := 7) hx hb dX5_judges_133 (by decide) ?_
          obtain ⟨g20, hF⟩ := gd_s hF
          refine va_iald hx hb hK hP 1 0 tw_e0 rfl (inB_in g20) dX5_judges_135 ?_
          exact W.iret (v := (((tw_sa (tw_sa (tw_sa σ 0 ((81 + ((σ).2 0 (5 : Int32).toNatClampNeg))).toNatClampNeg (((σ).2 0 (6 : Int32).toNatClampNeg) - 1)) 0 (5 : Int32).toNatClampNeg ((((tw_sa σ 0 ((81 + ((σ).2 0 (5 : Int32).toNatClampNeg))).toNatClampNeg (((σ).2 0 (6 : Int32).toNatClampNeg) - 1))).2 0 (5 : Int32).toNatClampNeg) + 1)) 0 (7 : Int32).toNatClampNeg 4)).2 0 (7 : Int32).toNatClampNeg)) hx hb hr (fun t ht hW => ⟨⟨(((tw_sa (tw_sa (tw_sa σ 0 ((81 + ((σ).2 0 (5 : Int32).toNatClampNeg))).toNatClampNeg (((σ).2 0 (6 : Int32).toNatClampNeg) - 1)) 0 (5 : Int32).toNatClampNeg ((((tw_sa σ 0 ((81 + ((σ).2 0 (5 : Int32).toNatClampNeg))).toNatClampNeg (((σ).2 0 (6 : Int32).toNatClampNeg) - 1))).2 0 (5 : Int32).toNatClampNeg) + 1)) 0 (7 : Int32).toNatClampNeg 4)).2 0 (7 : Int32).toNatClampNeg), (tw_sa (tw_sa (tw_sa σ 0 ((81 + ((σ).2 0 (5 : Int32).toNatClampNeg))).toNatClampNeg (((σ).2 0 (6 : Int32).toNatClampNeg) - 1)) 0 (5 : Int32).toNatClampNeg ((((tw_sa σ 0 ((81 + ((σ).2 0 (5 : Int32).toNatClampNeg))).toNatClampNeg (((σ).2 0 (6 : Int32).toNatClampNeg) - 1))).2 0 (5 : Int32).toNatClampNeg) + 1)) 0 (7 : Int32).toNatClampNeg 4), rfl, Option.some.inj hF, by rw [ht]; exact hP, va_K.moved hW.alike hK⟩, hS.F ht⟩) hS.2.2 dX5_judges_136
      · replace hF := it_f c8 hF
        refine lv_aload_n hx hb dX5_judges_38 rfl (lv_at hl 0 rfl) ?_
        refine va_get (D := (dC, dI)) (ci := 0) (v := .ref (ad 0)) (C := RX5) (T := TX5) (N := 28) hx hb hts in_X5 hown hK hP 0 tw_g rfl 0 (by decide) (hts _ q1986) (fun _ h9 => h9) rfl dX5_judges_39 ?_
        refine lv_bipush (v := 98) hx hb dX5_judges_42 (by decide) ?_
        refine lv_bipush (v := 8) hx hb dX5_judges_44 (by decide) ?_
        refine lv_aload_n hx hb dX5_judges_46 rfl (lv_at hl 0 rfl) ?_
        refine va_get (D := (dC, dI)) (ci := 0) (v := .ref (ad 0)) (C := RX5) (T := TX5) (N := 28) hx hb hts in_X5 hown hK hP 0 tw_g rfl 0 (by decide) (hts _ q1986) (fun _ h9 => h9) rfl dX5_judges_47 ?_
        refine lv_iconst (v := 5) hx hb dX5_judges_50 (by decide) ?_
        obtain ⟨g21, hF⟩ := gd_s hF
        refine va_iald hx hb hK hP 1 0 tw_e0 rfl (inB_in g21) dX5_judges_51 ?_
        refine lv_imul hx hb dX5_judges_52 ?_
        refine lv_iadd hx hb dX5_judges_53 ?_
        refine lv_iload_n hx hb dX5_judges_54 rfl (lv_at hl 1 rfl) ?_
        refine lv_iadd hx hb dX5_judges_55 ?_
        refine lv_aload_n hx hb dX5_judges_56 rfl (lv_at hl 0 rfl) ?_
        refine va_get (D := (dC, dI)) (ci := 0) (v := .ref (ad 19)) (C := RX5) (T := TX5) (N := 28) hx hb hts in_X5 hown hK hP 0 tw_g rfl 19 (by decide) (hts _ q2005) (fun _ h9 => h9) rfl dX5_judges_57 ?_
        refine lv_iload_n hx hb dX5_judges_60 rfl (lv_at hl 1 rfl) ?_
        obtain ⟨g22, hF⟩ := gd_s hF
        refine va_iald hx hb hK hP 9 0 tw_e19 rfl (inB_in g22) dX5_judges_61 ?_
        obtain ⟨g23, hF⟩ := gd_s hF
        refine va_iast hx hb hK hP hD hS 1 0 tw_e0 rfl (x := ((σ).2 19 (x1).toNatClampNeg)) (inB_in g23) dX5_judges_62 (fun H locs hP hD hS => ?_)
        rw [tw_s0] at hP hD
        refine lv_iinc (v := (x1 + 1)) (lv' := [(1, .int (x1 + 1)), (0, .ref m0)]) hx hb dX5_judges_63 hl (k := 1) rfl rfl (by decide) rfl (fun ls hl => ?_)
        refine lv_goto (tgt := 28) hx hb dX5_judges_66 (by decide) ?_
        exact lp1 (tw_sa σ 0 (((98 + (8 * ((σ).2 0 (5 : Int32).toNatClampNeg))) + x1)).toNatClampNeg ((σ).2 19 (x1).toNatClampNeg)) (x1 + 1) hF _ _ hP hD hS ls (lv_sub hl [1, 0] rfl)
  have lp1 := loop n
  unfold F_judges F_judges_0 at hF
  refine lv_aload_n hx hb dX5_judges_0 rfl (lv_at hl 0 rfl) ?_
  obtain ⟨r1, u1, e1, hF⟩ := bnd_s hF
  refine tw_calli (va_runV (As := []) (rest := []) ⟨hx, hb, hml, hown, hts⟩ (mt_isZero l dC dI cI cZ m0 ad s.heap.size σ n   _ e1) (cwV 0 hts (lw_V q2304 q2306 qs82 q125 q2307) rfl rfl rfl (by decide +kernel) ⟨Nat.le_of_ble_eq_true rfl, Nat.le_of_ble_eq_true rfl⟩) (tw_preV hK hP hD _) rfl rfl hl.1 rfl (lv_room (Nat.le_of_ble_eq_true rfl)) dX5_judges_1 ⟨Nat.le_of_ble_eq_true rfl, Nat.le_of_ble_eq_true rfl⟩) hS hD hAA (fun rr uu H locs hw hP hD hS => ?_)
  obtain rfl : r1 = rr := (congrArg Prod.fst hw).symm
  obtain rfl : u1 = uu := (congrArg Prod.snd hw).symm
  refine lv_if_eq (tgt := 13) hx hb dX5_judges_4 (by decide) (fun c2 => ?_) (fun c2 => ?_)
  · replace hF := it_t c2 hF
    refine lv_aload_n hx hb dX5_judges_13 rfl (lv_at hl 0 rfl) ?_
    obtain ⟨r3, u3, e3, hF⟩ := bnd_s hF
    refine tw_calli (va_runV (As := []) (rest := []) ⟨hx, hb, hml, hown, hts⟩ (mt_ownProduct l dC dI cI cZ m0 ad H.size u1 n   _ e3) (cwV 0 hts (lw_V q2296 q2298 qs80 q125 q2299) rfl rfl rfl (by decide +kernel) ⟨Nat.le_of_ble_eq_true rfl, Nat.le_of_ble_eq_true rfl⟩) (tw_preV hK hP hD _) rfl rfl hl.1 rfl (lv_room (Nat.le_of_ble_eq_true rfl)) dX5_judges_14 ⟨Nat.le_of_ble_eq_true rfl, Nat.le_of_ble_eq_true rfl⟩) hS hD hAA (fun rr uu H locs hw hP hD hS => ?_)
    obtain rfl : r3 = rr := (congrArg Prod.fst hw).symm
    obtain rfl : u3 = uu := (congrArg Prod.snd hw).symm
    refine lv_if_ne (tgt := 26) hx hb dX5_judges_17 (by decide) (fun c4 => ?_) (fun c4 => ?_)
    · replace hF := it_f c4 hF
      refine lv_iconst (v := 0) hx hb dX5_judges_26 (by decide) ?_
      refine lv_istore_n (lv' := [(1, .int 0), (0, .ref m0)]) hx hb dX5_judges_27 rfl hl (by decide) rfl (fun ls hl => ?_)
      exact lp1 u3 0 hF _ _ hP hD hS ls (lv_sub hl [1, 0] rfl)
    · replace hF := it_t c4 hF
      refine lv_aload_n hx hb dX5_judges_20 rfl (lv_at hl 0 rfl) ?_
      refine lv_iconst (v := 2) hx hb dX5_judges_21 (by decide) ?_
      obtain ⟨r5, u5, e5, hF⟩ := bnd_s hF
      refine tw_calli (va_runV (As := [.int 2]) (rest := []) ⟨hx, hb, hml, hown, hts⟩ (mt_ends l dC dI cI cZ m0 ad H.size u3  2 _ e5) (cwV 1 hts (lw_V q2233 q2235 qs65 q125 q2236) rfl rfl rfl (by decide +kernel) ⟨Nat.le_of_ble_eq_true rfl, Nat.le_of_ble_eq_true rfl⟩) (tw_preV hK hP hD _) rfl rfl hl.1 rfl (lv_room (Nat.le_of_ble_eq_true rfl)) dX5_judges_22 ⟨Nat.le_of_ble_eq_true rfl, Nat.le_of_ble_eq_true rfl⟩) hS hD hAA (fun rr uu H locs hw hP hD hS => ?_)
      obtain rfl : r5 = rr := (congrArg Prod.fst hw).symm
      obtain rfl : u5 = uu := (congrArg Prod.snd hw).symm
      exact W.iret (v := r5) hx hb hr (fun t ht hW => ⟨⟨r5, u5, rfl, Option.some.inj hF, by rw [ht]; exact hP, va_K.moved hW.alike hK⟩, hS.F ht⟩) hS.2.2 dX5_judges_25
  · replace hF := it_f c2 hF
    refine lv_aload_n hx hb dX5_judges_7 rfl (lv_at hl 0 rfl) ?_
    refine lv_iconst (v := 1) hx hb dX5_judges_8 (by decide) ?_
    obtain ⟨r6, u6, e6, hF⟩ := bnd_s hF
    refine tw_calli (va_runV (As := [.int 1]) (rest := []) ⟨hx, hb, hml, hown, hts⟩ (mt_ends l dC dI cI cZ m0 ad H.size u1  1 _ e6) (cwV 1 hts (lw_V q2233 q2235 qs65 q125 q2236) rfl rfl rfl (by decide +kernel) ⟨Nat.le_of_ble_eq_true rfl, Nat.le_of_ble_eq_true rfl⟩) (tw_preV hK hP hD _) rfl rfl hl.1 rfl (lv_room (Nat.le_of_ble_eq_true rfl)) dX5_judges_9 ⟨Nat.le_of_ble_eq_true rfl, Nat.le_of_ble_eq_true rfl⟩) hS hD hAA (fun rr uu H locs hw hP hD hS => ?_)
    obtain rfl : r6 = rr := (congrArg Prod.fst hw).symm
    obtain rfl : u6 = uu := (congrArg Prod.snd hw).symm
    exact W.iret (v := r6) hx hb hr (fun t ht hW => ⟨⟨r6, u6, rfl, Option.some.inj hF, by rw [ht]; exact hP, va_K.moved hW.alike hK⟩, hS.F ht⟩) hS.2.2 dX5_judges_12

def F_steps_1 (R : Nat → Tw → Int32 → Option (Int32 × Tw)) (n : Nat) (σ : Tw) (x1 : Int32) : Option (Int32 × Tw) := gd (inB 1 162) (if ((σ).2 0 (1 : Int32).toNatClampNeg) ≤ x1 then bnd (F_judges n σ ) (fun r23 u23 => some (r23, u23)) else gd (inB (73 + x1) 162) (gd (inB x1 8) (R 1 (tw_sa σ 19 (x1).toNatClampNeg ((σ).2 0 ((73 + x1)).toNatClampNeg)) (x1 + 1))))
def F_steps_r : Nat → Nat → Tw → Int32 → Option (Int32 × Tw)
  | 0 => fun _ _ _ => none
  | n + 1 => fun k => match k with  | _ => F_steps_1 (F_steps_r n) n
def F_steps_0 (R : Nat → Tw → Int32 → Option (Int32 × Tw)) (n : Nat) (σ : Tw) : Option (Int32 × Tw) := gd (inB 7 162) (if ((σ).2 0 (7 : Int32).toNatClampNeg) ≤ 0 then gd (inB 6 162) (if ((σ).2 0 (6 : Int32).toNatClampNeg) = 0 then gd (inB 6 162) (R 1 (tw_sa σ 0 (6 : Int32).toNatClampNeg 1) 0) else gd (inB 6 162) (gd (inB ((89 + ((σ).2 0 (6 : Int32).toNatClampNeg)) - 1) 162) (if ((σ).2 0 (((89 + ((σ).2 0 (6 : Int32).toNatClampNeg)) - 1)).toNatClampNeg) = 0 then gd (inB 6 162) (bnd (F_directionsOf n σ (((σ).2 0 (6 : Int32).toNatClampNeg) - 1)) (fun r13 u13 => gd (inB 2 162) (if r13 < ((u13).2 0 (2 : Int32).toNatClampNeg) then bnd (F_follows n u13 ) (fun r16 u16 => bnd (F_judges n u16 ) (fun r17 u17 => some (r17, u17))) else bnd (F_ends u13 3) (fun r18 u18 => some (r18, u18))))) else bnd (F_restarts n σ ) (fun r8 u8 => if r8 = 0 then gd (inB 7 162) (some (5, (tw_sa u8 0 (7 : Int32).toNatClampNeg 5))) else bnd (F_judges n u8 ) (fun r10 u10 => some (r10, u10)))))) else gd (inB 7 162) (some (((σ).2 0 (7 : Int32).toNatClampNeg), σ)))
def F_steps (n : Nat) (σ : Tw) : Option (Int32 × Tw) := F_steps_0 (F_steps_r n) n σ 
set_option maxHeartbeats 4000000 in
set_option maxRecDepth 100000 in
theorem mt_steps (l : Launch) (dC : Nat → ClassId) (dI : Nat → Nat → Nat) (cI cZ : ClassId) (m0 : Nat) (ad : Nat → Nat) (sz : Nat) (σ : Tw) (n : Nat)  (out : Int32 × Tw) (hF : F_steps n σ  = some out) : Met l yX5_steps (ws_ yX5_steps cX5_steps 2 (some .int)) ({ frames := 7, cells := 0, slots := 0, locals := 156 }) (va_Pc [.ref m0] (tw_Pre dC dI cI cZ m0 ad sz σ)) (va_Qi (fun r u => (r, u) = out) (tw_B dC dI cI cZ m0 ad) (tw_A m0 ad sz)) 0 0 (tw_A m0 ad sz) := by
  refine Met.ofW (cc := cX5_steps) (maxL := 2) (ret := (some .int)) (by decide +kernel) rfl ?_
  intro p e s m args below meth c s₁ B hml hv
  obtain ⟨rfl, hsz, hP, hK, hD0⟩ := hv
  have hx := B.exec
  have hb := B.bytes
  have hr := B.returns
  have hts := atoms_spec (ws := (ws_ yX5_steps cX5_steps 2 (some .int))) B.pre
  have hts : ∀ w ∈ lw_all, w.before _ s = true := fun w h => hts w (List.mem_cons_of_mem _ h)
  have hown : s.vm.findClass RX5 = some m.cls := findClass_of_methodNamed B.named
  have hlocks := B.notSynchronized
  subst hsz
  have hD := tw_Ds (z := s.heap.size) hD0
  have hAA := fun z (h : s.heap.size ≤ z) => tw_Am (m0 := m0) (ad := ad) h
  generalize hAe : tw_A m0 ad s.heap.size = A at hD hAA ⊢
  have hS : va_S A s.heap s.heap [] := va_S.rf
  have hP : va_P (dC, dI) vwCl (tw_ws m0 ad cI cZ σ) s.heap := hP
  have hl := lv_entry ([.ref m0]) (n := 2) (Nat.le_of_ble_eq_true rfl)
  rw [lg_entry_eq]
  generalize (lg_sl ([.ref m0]) ++ List.replicate (2 - (lg_sl ([.ref m0])).length) Slot.unset).toArray = ls at hl ⊢
  have hl : lv_has ls 2 [(0, .ref m0)] := hl
  have loop : ∀ n : Nat, (∀ (σ : Tw) (x1 : Int32), F_steps_r n 1 σ x1 = some out → ∀ (H : Heap) (locs : List Loc), va_P (dC, dI) vwCl (tw_ws m0 ad cI cZ σ) H → va_D A (tw_ws m0 ad cI cZ σ) → va_S A s.heap H locs → ∀ ls : Array Slot, lv_has ls 2 [(0, .ref m0), (1, .int x1)] → W p l e (headSpec (ws_ yX5_steps cX5_steps 2 (some .int)) ({ frames := 7, cells := 0, slots := 0, locals := 156 })).room s m ([.ref m0] : List Value).toArray below meth c H locs 0 0 (MQ below (va_Qi (fun r u => (r, u) = out) (tw_B dC dI cI cZ m0 ad) A) ([.ref m0] : List Value).toArray s 0 0 A) (F0 m 38 ls [])) := by
    intro n
    induction n with
    | zero => exact (fun _ _ h => nomatch h)
    | succ n ih =>
      have lp1 := ih
      intro σ x1 hF H locs hP hD hS ls hl
      replace hF : F_steps_1 (F_steps_r n) n σ x1 = some out := hF
      unfold F_steps_1 at hF
      refine lv_iload_n hx hb dX5_steps_38 rfl (lv_at hl 1 rfl) ?_
      refine lv_aload_n hx hb dX5_steps_39 rfl (lv_at hl 0 rfl) ?_
      refine va_get (D := (dC, dI)) (ci := 0) (v := .ref (ad 0)) (C := RX5) (T := TX5) (N := 28) hx hb hts in_X5 hown hK hP 0 tw_g rfl 0 (by decide) (hts _ q1986) (fun _ h9 => h9) rfl dX5_steps_40 ?_
      refine lv_iconst (v := 1) hx hb dX5_steps_43 (by decide) ?_
      obtain ⟨g21, hF⟩ := gd_s hF
      refine va_iald hx hb hK hP 1 0 tw_e0 rfl (inB_in g21) dX5_steps_44 ?_
      refine lv_icmp_ge (tgt := 69) hx hb dX5_steps_45 (by decide) (fun c22 => ?_) (fun c22 => ?_)
      · replace hF := it_t c22 hF
        refine lv_goto (tgt := 144) hx hb dX5_steps_69 (by decide) ?_
        refine lv_aload_n hx hb dX5_steps_144 rfl (lv_at hl 0 rfl) ?_
        obtain ⟨r23, u23, e23, hF⟩ := bnd_s hF
        refine tw_calli (va_runV (As := []) (rest := []) ⟨hx, hb, hml, hown, hts⟩ (mt_judges l dC dI cI cZ m0 ad H.size σ n   _ e23) (cwV 0 hts (lw_V q2300 q2302 qs81 q125 q2303) rfl rfl rfl (by decide +kernel) ⟨Nat.le_of_ble_eq_true rfl, Nat.le_of_ble_eq_true rfl⟩) (tw_preV hK hP hD _) rfl rfl hl.1 rfl (lv_room (Nat.le_of_ble_eq_true rfl)) dX5_steps_145 ⟨Nat.le_of_ble_eq_true rfl, Nat.le_of_ble_eq_true rfl⟩) hS hD hAA (fun rr uu H locs hw hP hD hS => ?_)
        obtain rfl : r23 = rr := (congrArg Prod.fst hw).symm
        obtain rfl : u23 = uu := (congrArg Prod.snd hw).symm
        exact W.iret (v := r23) hx hb hr (fun t ht hW => ⟨⟨r23, u23, rfl, Option.some.inj hF, by rw [ht]; exact hP, va_K.moved hW.alike hK⟩, hS.F ht⟩) hS.2.2 dX5_steps_148
      · replace hF := it_f c22 hF
        refine lv_aload_n hx hb dX5_steps_48 rfl (lv_at hl 0 rfl) ?_
        refine va_get (D := (dC, dI)) (ci := 0) (v := .ref (ad 19)) (C := RX5) (T := TX5) (N := 28) hx hb hts in_X5 hown hK hP 0 tw_g rfl 19 (by decide) (hts _ q2005) (fun _ h9 => h9) rfl dX5_steps_49 ?_
        refine lv_iload_n hx hb dX5_steps_52 rfl (lv_at hl 1 rfl) ?_
        refine lv_aload_n hx hb dX5_steps_53 rfl (lv_at hl 0 rfl) ?_
        refine va_get (D := (dC, dI)) (ci := 0) (v := .ref (ad 0)) (C := RX5) (T := TX5) (N := 28) hx hb hts in_X5 hown hK hP 0 tw_g rfl 0 (by decide) (hts _ q1986) (fun _ h9 => h9) rfl dX5_steps_54 ?_
        refine lv_bipush (v := 73) hx hb dX5_steps_57 (by decide) ?_
        refine lv_iload_n hx hb dX5_steps_59 rfl (lv_at hl 1 rfl) ?_
        refine lv_iadd hx hb dX5_steps_60 ?_
        obtain ⟨g24, hF⟩ := gd_s hF
        refine va_iald hx hb hK hP 1 0 tw_e0 rfl (inB_in g24) dX5_steps_61 ?_
        obtain ⟨g25, hF⟩ := gd_s hF
        refine va_iast hx hb hK hP hD hS 9 0 tw_e19 rfl (x := ((σ).2 0 ((73 + x1)).toNatClampNeg)) (inB_in g25) dX5_steps_62 (fun H locs hP hD hS => ?_)
        rw [tw_s19] at hP hD
        refine lv_iinc (v := (x1 + 1)) (lv' := [(1, .int (x1 + 1)), (0, .ref m0)]) hx hb dX5_steps_63 hl (k := 1) rfl rfl (by decide) rfl (fun ls hl => ?_)
        refine lv_goto (tgt := 38) hx hb dX5_steps_66 (by decide) ?_
        exact lp1 (tw_sa σ 19 (x1).toNatClampNeg ((σ).2 0 ((73 + x1)).toNatClampNeg)) (x1 + 1) hF _ _ hP hD hS ls (lv_sub hl [1, 0] rfl)
  have lp1 := loop n
  unfold F_steps F_steps_0 at hF
  refine lv_aload_n hx hb dX5_steps_0 rfl (lv_at hl 0 rfl) ?_
  refine va_get (D := (dC, dI)) (ci := 0) (v := .ref (ad 0)) (C := RX5) (T := TX5) (N := 28) hx hb hts in_X5 hown hK hP 0 tw_g rfl 0 (by decide) (hts _ q1986) (fun _ h9 => h9) rfl dX5_steps_1 ?_
  refine lv_bipush (v := 7) hx hb dX5_steps_4 (by decide) ?_
  obtain ⟨g1, hF⟩ := gd_s hF
  refine va_iald hx hb hK hP 1 0 tw_e0 rfl (inB_in g1) dX5_steps_6 ?_
  refine lv_if_le (tgt := 18) hx hb dX5_steps_7 (by decide) (fun c2 => ?_) (fun c2 => ?_)
  · replace hF := it_t c2 hF
    refine lv_aload_n hx hb dX5_steps_18 rfl (lv_at hl 0 rfl) ?_
    refine va_get (D := (dC, dI)) (ci := 0) (v := .ref (ad 0)) (C := RX5) (T := TX5) (N := 28) hx hb hts in_X5 hown hK hP 0 tw_g rfl 0 (by decide) (hts _ q1986) (fun _ h9 => h9) rfl dX5_steps_19 ?_
    refine lv_bipush (v := 6) hx hb dX5_steps_22 (by decide) ?_
    obtain ⟨g3, hF⟩ := gd_s hF
    refine va_iald hx hb hK hP 1 0 tw_e0 rfl (inB_in g3) dX5_steps_24 ?_
    refine lv_if_ne (tgt := 72) hx hb dX5_steps_25 (by decide) (fun c4 => ?_) (fun c4 => ?_)
    · replace hF := it_f c4 hF
      refine lv_aload_n hx hb dX5_steps_72 rfl (lv_at hl 0 rfl) ?_
      refine va_get (D := (dC, dI)) (ci := 0) (v := .ref (ad 0)) (C := RX5) (T := TX5) (N := 28) hx hb hts in_X5 hown hK hP 0 tw_g rfl 0 (by decide) (hts _ q1986) (fun _ h9 => h9) rfl dX5_steps_73 ?_
      refine lv_bipush (v := 89) hx hb dX5_steps_76 (by decide) ?_
      refine lv_aload_n hx hb dX5_steps_78 rfl (lv_at hl 0 rfl) ?_
      refine va_get (D := (dC, dI)) (ci := 0) (v := .ref (ad 0)) (C := RX5) (T := TX5) (N := 28) hx hb hts in_X5 hown hK hP 0 tw_g rfl 0 (by decide) (hts _ q1986) (fun _ h9 => h9) rfl dX5_steps_79 ?_
      refine lv_bipush (v := 6) hx hb dX5_steps_82 (by decide) ?_
      obtain ⟨g5, hF⟩ := gd_s hF
      refine va_iald hx hb hK hP 1 0 tw_e0 rfl (inB_in g5) dX5_steps_84 ?_
      refine lv_iadd hx hb dX5_steps_85 ?_
      refine lv_iconst (v := 1) hx hb dX5_steps_86 (by decide) ?_
      refine lv_isub hx hb dX5_steps_87 ?_
      obtain ⟨g6, hF⟩ := gd_s hF
      refine va_iald hx hb hK hP 1 0 tw_e0 rfl (inB_in g6) dX5_steps_88 ?_
      refine lv_if_ne (tgt := 127) hx hb dX5_steps_89 (by decide) (fun c7 => ?_) (fun c7 => ?_)
      · replace hF := it_f c7 hF
        refine lv_aload_n hx hb dX5_steps_127 rfl (lv_at hl 0 rfl) ?_
        obtain ⟨r8, u8, e8, hF⟩ := bnd_s hF
        refine tw_calli (va_runV (As := []) (rest := []) ⟨hx, hb, hml, hown, hts⟩ (mt_restarts l dC dI cI cZ m0 ad s.heap.size σ n   _ e8) (cwV 0 hts (lw_V q2288 q2290 qs78 q125 q2291) rfl rfl rfl (by decide +kernel) ⟨Nat.le_of_ble_eq_true rfl, Nat.le_of_ble_eq_true rfl⟩) (tw_preV hK hP hD _) rfl rfl hl.1 rfl (lv_room (Nat.le_of_ble_eq_true rfl)) dX5_steps_128 ⟨Nat.le_of_ble_eq_true rfl, Nat.le_of_ble_eq_true rfl⟩) hS hD hAA (fun rr uu H locs hw hP hD hS => ?_)
        obtain rfl : r8 = rr := (congrArg Prod.fst hw).symm
        obtain rfl : u8 = uu := (congrArg Prod.snd hw).symm
        refine lv_if_ne (tgt := 144) hx hb dX5_steps_131 (by decide) (fun c9 => ?_) (fun c9 => ?_)
        · replace hF := it_f c9 hF
          refine lv_aload_n hx hb dX5_steps_144 rfl (lv_at hl 0 rfl) ?_
          obtain ⟨r10, u10, e10, hF⟩ := bnd_s hF
          refine tw_calli (va_runV (As := []) (rest := []) ⟨hx, hb, hml, hown, hts⟩ (mt_judges l dC dI cI cZ m0 ad H.size u8 n   _ e10) (cwV 0 hts (lw_V q2300 q2302 qs81 q125 q2303) rfl rfl rfl (by decide +kernel) ⟨Nat.le_of_ble_eq_true rfl, Nat.le_of_ble_eq_true rfl⟩) (tw_preV hK hP hD _) rfl rfl hl.1 rfl (lv_room (Nat.le_of_ble_eq_true rfl)) dX5_steps_145 ⟨Nat.le_of_ble_eq_true rfl, Nat.le_of_ble_eq_true rfl⟩) hS hD hAA (fun rr uu H locs hw hP hD hS => ?_)
          obtain rfl : r10 = rr := (congrArg Prod.fst hw).symm
          obtain rfl : u10 = uu := (congrArg Prod.snd hw).symm
          exact W.iret (v := r10) hx hb hr (fun t ht hW => ⟨⟨r10, u10, rfl, Option.some.inj hF, by rw [ht]; exact hP, va_K.moved hW.alike hK⟩, hS.F ht⟩) hS.2.2 dX5_steps_148
        · replace hF := it_t c9 hF
          refine lv_aload_n hx hb dX5_steps_134 rfl (lv_at hl 0 rfl) ?_
          refine va_get (D := (dC, dI)) (ci := 0) (v := .ref (ad 0)) (C := RX5) (T := TX5) (N := 28) hx hb hts in_X5 hown hK hP 0 tw_g rfl 0 (by decide) (hts _ q1986) (fun _ h9 => h9) rfl dX5_steps_135 ?_
          refine lv_bipush (v := 7) hx hb dX5_steps_138 (by decide) ?_
          refine lv_iconst (v := 5) hx hb dX5_steps_140 (by decide) ?_
          obtain ⟨g11, hF⟩ := gd_s hF
          refine va_iast hx hb hK hP hD hS 1 0 tw_e0 rfl (x := 5) (inB_in g11) dX5_steps_141 (fun H locs hP hD hS => ?_)
          rw [tw_s0] at hP hD
          refine lv_iconst (v := 5) hx hb dX5_steps_142 (by decide) ?_
          exact W.iret (v := 5) hx hb hr (fun t ht hW => ⟨⟨5, (tw_sa u8 0 (7 : Int32).toNatClampNeg 5), rfl, Option.some.inj hF, by rw [ht]; exact hP, va_K.moved hW.alike hK⟩, hS.F ht⟩) hS.2.2 dX5_steps_143
      · replace hF := it_t c7 hF
        refine lv_aload_n hx hb dX5_steps_92 rfl (lv_at hl 0 rfl) ?_
        refine lv_aload_n hx hb dX5_steps_93 rfl (lv_at hl 0 rfl) ?_
        refine va_get (D := (dC, dI)) (ci := 0) (v := .ref (ad 0)) (C := RX5) (T := TX5) (N := 28) hx hb hts in_X5 hown hK hP 0 tw_g rfl 0 (by decide) (hts _ q1986) (fun _ h9 => h9) rfl dX5_steps_94 ?_
        refine lv_bipush (v := 6) hx hb dX5_steps_97 (by decide) ?_
        obtain ⟨g12, hF⟩ := gd_s hF
        refine va_iald hx hb hK hP 1 0 tw_e0 rfl (inB_in g12) dX5_steps_99 ?_
        refine lv_iconst (v := 1) hx hb dX5_steps_100 (by decide) ?_
        refine lv_isub hx hb dX5_steps_101 ?_
        obtain ⟨r13, u13, e13, hF⟩ := bnd_s hF
        refine tw_calli (va_runV (As := [.int (((σ).2 0 (6 : Int32).toNatClampNeg) - 1)]) (rest := []) ⟨hx, hb, hml, hown, hts⟩ (mt_directionsOf l dC dI cI cZ m0 ad s.heap.size σ n  (((σ).2 0 (6 : Int32).toNatClampNeg) - 1) _ e13) (cwV 1 hts (lw_V q2229 q2231 qs64 q125 q2232) rfl rfl rfl (by decide +kernel) ⟨Nat.le_of_ble_eq_true rfl, Nat.le_of_ble_eq_true rfl⟩) (tw_preV hK hP hD _) rfl rfl hl.1 rfl (lv_room (Nat.le_of_ble_eq_true rfl)) dX5_steps_102 ⟨Nat.le_of_ble_eq_true rfl, Nat.le_of_ble_eq_true rfl⟩) hS hD hAA (fun rr uu H locs hw hP hD hS => ?_)
        obtain rfl : r13 = rr := (congrArg Prod.fst hw).symm
        obtain rfl : u13 = uu := (congrArg Prod.snd hw).symm
        refine lv_aload_n hx hb dX5_steps_105 rfl (lv_at hl 0 rfl) ?_
        refine va_get (D := (dC, dI)) (ci := 0) (v := .ref (ad 0)) (C := RX5) (T := TX5) (N := 28) hx hb hts in_X5 hown hK hP 0 tw_g rfl 0 (by decide) (hts _ q1986) (fun _ h9 => h9) rfl dX5_steps_106 ?_
        refine lv_iconst (v := 2) hx hb dX5_steps_109 (by decide) ?_
        obtain ⟨g14, hF⟩ := gd_s hF
        refine va_iald hx hb hK hP 1 0 tw_e0 rfl (inB_in g14) dX5_steps_110 ?_
        refine lv_icmp_lt (tgt := 120) hx hb dX5_steps_111 (by decide) (fun c15 => ?_) (fun c15 => ?_)
        · replace hF := it_t c15 hF
          refine lv_aload_n hx hb dX5_steps_120 rfl (lv_at hl 0 rfl) ?_
          obtain ⟨r16, u16, e16, hF⟩ := bnd_s hF
          refine tw_callv (va_runV (As := []) (rest := []) ⟨hx, hb, hml, hown, hts⟩ (mt_follows l dC dI cI cZ m0 ad H.size u13 n   _ e16) (cwV 0 hts (lw_V q2237 q2239 qs66 q125 q2240) rfl rfl rfl (by decide +kernel) ⟨Nat.le_of_ble_eq_true rfl, Nat.le_of_ble_eq_true rfl⟩) (tw_preV hK hP hD _) rfl rfl hl.1 rfl (lv_room (Nat.le_of_ble_eq_true rfl)) dX5_steps_121 ⟨Nat.le_of_ble_eq_true rfl, Nat.le_of_ble_eq_true rfl⟩) hS hD hAA (fun uu H locs hw hP hD hS => ?_)
          obtain rfl : u16 = uu := (congrArg Prod.snd hw).symm
          refine lv_goto (tgt := 144) hx hb dX5_steps_124 (by decide) ?_
          refine lv_aload_n hx hb dX5_steps_144 rfl (lv_at hl 0 rfl) ?_
          obtain ⟨r17, u17, e17, hF⟩ := bnd_s hF
          refine tw_calli (va_runV (As := []) (rest := []) ⟨hx, hb, hml, hown, hts⟩ (mt_judges l dC dI cI cZ m0 ad H.size u16 n   _ e17) (cwV 0 hts (lw_V q2300 q2302 qs81 q125 q2303) rfl rfl rfl (by decide +kernel) ⟨Nat.le_of_ble_eq_true rfl, Nat.le_of_ble_eq_true rfl⟩) (tw_preV hK hP hD _) rfl rfl hl.1 rfl (lv_room (Nat.le_of_ble_eq_true rfl)) dX5_steps_145 ⟨Nat.le_of_ble_eq_true rfl, Nat.le_of_ble_eq_true rfl⟩) hS hD hAA (fun rr uu H locs hw hP hD hS => ?_)
          obtain rfl : r17 = rr := (congrArg Prod.fst hw).symm
          obtain rfl : u17 = uu := (congrArg Prod.snd hw).symm
          exact W.iret (v := r17) hx hb hr (fun t ht hW => ⟨⟨r17, u17, rfl, Option.some.inj hF, by rw [ht]; exact hP, va_K.moved hW.alike hK⟩, hS.F ht⟩) hS.2.2 dX5_steps_148
        · replace hF := it_f c15 hF
          refine lv_aload_n hx hb dX5_steps_114 rfl (lv_at hl 0 rfl) ?_
          refine lv_iconst (v := 3) hx hb dX5_steps_115 (by decide) ?_
          obtain ⟨r18, u18, e18, hF⟩ := bnd_s hF
          refine tw_calli (va_runV (As := [.int 3]) (rest := []) ⟨hx, hb, hml, hown, hts⟩ (mt_ends l dC dI cI cZ m0 ad H.size u13  3 _ e18) (cwV 1 hts (lw_V q2233 q2235 qs65 q125 q2236) rfl rfl rfl (by decide +kernel) ⟨Nat.le_of_ble_eq_true rfl, Nat.le_of_ble_eq_true rfl⟩) (tw_preV hK hP hD _) rfl rfl hl.1 rfl (lv_room (Nat.le_of_ble_eq_true rfl)) dX5_steps_116 ⟨Nat.le_of_ble_eq_true rfl, Nat.le_of_ble_eq_true rfl⟩) hS hD hAA (fun rr uu H locs hw hP hD hS => ?_)
          obtain rfl : r18 = rr := (congrArg Prod.fst hw).symm
          obtain rfl : u18 = uu := (congrArg Prod.snd hw).symm
          exact W.iret (v := r18) hx hb hr (fun t ht hW => ⟨⟨r18, u18, rfl, Option.some.inj hF, by rw [ht]; exact hP, va_K.moved hW.alike hK⟩, hS.F ht⟩) hS.2.2 dX5_steps_119
    · replace hF := it_t c4 hF
      refine lv_aload_n hx hb dX5_steps_28 rfl (lv_at hl 0 rfl) ?_
      refine va_get (D := (dC, dI)) (ci := 0) (v := .ref (ad 0)) (C := RX5) (T := TX5) (N := 28) hx hb hts in_X5 hown hK hP 0 tw_g rfl 0 (by decide) (hts _ q1986) (fun _ h9 => h9) rfl dX5_steps_29 ?_
      refine lv_bipush (v := 6) hx hb dX5_steps_32 (by decide) ?_
      refine lv_iconst (v := 1) hx hb dX5_steps_34 (by decide) ?_
      obtain ⟨g19, hF⟩ := gd_s hF
      refine va_iast hx hb hK hP hD hS 1 0 tw_e0 rfl (x := 1) (inB_in g19) dX5_steps_35 (fun H locs hP hD hS => ?_)
      rw [tw_s0] at hP hD
      refine lv_iconst (v := 0) hx hb dX5_steps_36 (by decide) ?_
      refine lv_istore_n (lv' := [(1, .int 0), (0, .ref m0)]) hx hb dX5_steps_37 rfl hl (by decide) rfl (fun ls hl => ?_)
      exact lp1 (tw_sa σ 0 (6 : Int32).toNatClampNeg 1) 0 hF _ _ hP hD hS ls (lv_sub hl [1, 0] rfl)
  · replace hF := it_f c2 hF
    refine lv_aload_n hx hb dX5_steps_10 rfl (lv_at hl 0 rfl) ?_
    refine va_get (D := (dC, dI)) (ci := 0) (v := .ref (ad 0)) (C := RX5) (T := TX5) (N := 28) hx hb hts in_X5 hown hK hP 0 tw_g rfl 0 (by decide) (hts _ q1986) (fun _ h9 => h9) rfl dX5_steps_11 ?_
    refine lv_bipush (v := 7) hx hb dX5_steps_14 (by decide) ?_
    obtain ⟨g20, hF⟩ := gd_s hF
    refine va_iald hx hb hK hP 1 0 tw_e0 rfl (inB_in g20) dX5_steps_16 ?_
    exact W.iret (v := ((σ).2 0 (7 : Int32).toNatClampNeg)) hx hb hr (fun t ht hW => ⟨⟨((σ).2 0 (7 : Int32).toNatClampNeg), σ, rfl, Option.some.inj hF, by rw [ht]; exact hP, va_K.moved hW.alike hK⟩, hS.F ht⟩) hS.2.2 dX5_steps_17

def F_step (n : Nat) (σ : Tw) : Option (Int32 × Tw) := bnd (F_keeps n (tw_sf σ 6 0) ) (fun r1 u1 => bnd (F_steps n u1 ) (fun r2 u2 => some (r2, u2)))
set_option maxHeartbeats 4000000 in
set_option maxRecDepth 100000 in
theorem mt_step (l : Launch) (dC : Nat → ClassId) (dI : Nat → Nat → Nat) (cI cZ : ClassId) (m0 : Nat) (ad : Nat → Nat) (sz : Nat) (σ : Tw) (n : Nat)  (out : Int32 × Tw) (hF : F_step n σ  = some out) : Met l yX5_step (ws_ yX5_step cX5_step 1 (some .int)) ({ frames := 8, cells := 0, slots := 0, locals := 177 }) (va_Pc [.ref m0] (tw_Pre dC dI cI cZ m0 ad sz σ)) (va_Qi (fun r u => (r, u) = out) (tw_B dC dI cI cZ m0 ad) (tw_A m0 ad sz)) 0 0 (tw_A m0 ad sz) := by
  refine Met.ofW (cc := cX5_step) (maxL := 1) (ret := (some .int)) (by decide +kernel) rfl ?_
  intro p e s m args below meth c s₁ B hml hv
  obtain ⟨rfl, hsz, hP, hK, hD0⟩ := hv
  have hx := B.exec
  have hb := B.bytes
  have hr := B.returns
  have hts := atoms_spec (ws := (ws_ yX5_step cX5_step 1 (some .int))) B.pre
  have hts : ∀ w ∈ lw_all, w.before _ s = true := fun w h => hts w (List.mem_cons_of_mem _ h)
  have hown : s.vm.findClass RX5 = some m.cls := findClass_of_methodNamed B.named
  have hlocks := B.notSynchronized
  subst hsz
  have hD := tw_Ds (z := s.heap.size) hD0
  have hAA := fun z (h : s.heap.size ≤ z) => tw_Am (m0 := m0) (ad := ad) h
  generalize hAe : tw_A m0 ad s.heap.size = A at hD hAA ⊢
  have hS : va_S A s.heap s.heap [] := va_S.rf
  have hP : va_P (dC, dI) vwCl (tw_ws m0 ad cI cZ σ) s.heap := hP
  have hl := lv_entry ([.ref m0]) (n := 1) (Nat.le_of_ble_eq_true rfl)
  rw [lg_entry_eq]
  generalize (lg_sl ([.ref m0]) ++ List.replicate (1 - (lg_sl ([.ref m0])).length) Slot.unset).toArray = ls at hl ⊢
  have hl : lv_has ls 1 [(0, .ref m0)] := hl
  unfold F_step at hF
  refine lv_aload_n hx hb dX5_step_0 rfl (lv_at hl 0 rfl) ?_
  refine lv_iconst (v := 0) hx hb dX5_step_1 (by decide) ?_
  refine va_put (D := (dC, dI)) (ci := 0) (v := .int 0) (ty := .int) (C := RX5) (T := TX5) (N := 28) hx hb hts in_X5 tyX5 tyX5_ok nmX5 hown hK hP hD hS 0 tw_g rfl 6 (by decide) (hts _ q1992) (fun _ h9 => h9) rfl (tyX5_ok 6 (by decide)) rfl rfl (Nat.le_of_ble_eq_true rfl) dX5_step_2 (fun H locs hP hD hS => ?_)
  rw [tw_p6] at hP hD
  refine lv_aload_n hx hb dX5_step_5 rfl (lv_at hl 0 rfl) ?_
  obtain ⟨r1, u1, e1, hF⟩ := bnd_s hF
  refine tw_callv (va_runV (As := []) (rest := []) ⟨hx, hb, hml, hown, hts⟩ (mt_keeps l dC dI cI cZ m0 ad H.size (tw_sf σ 6 0) n   _ e1) (cwV 0 hts (lw_V q2091 q2093 qs46 q125 q2094) rfl rfl rfl (by decide +kernel) ⟨Nat.le_of_ble_eq_true rfl, Nat.le_of_ble_eq_true rfl⟩) (tw_preV hK hP hD _) rfl rfl hl.1 rfl (lv_room (Nat.le_of_ble_eq_true rfl)) dX5_step_6 ⟨Nat.le_of_ble_eq_true rfl, Nat.le_of_ble_eq_true rfl⟩) hS hD hAA (fun uu H locs hw hP hD hS => ?_)
  obtain rfl : u1 = uu := (congrArg Prod.snd hw).symm
  refine lv_aload_n hx hb dX5_step_9 rfl (lv_at hl 0 rfl) ?_
  obtain ⟨r2, u2, e2, hF⟩ := bnd_s hF
  refine tw_calli (va_runV (As := []) (rest := []) ⟨hx, hb, hml, hown, hts⟩ (mt_steps l dC dI cI cZ m0 ad H.size u1 n   _ e2) (cwV 0 hts (lw_V q2225 q2227 qs63 q125 q2228) rfl rfl rfl (by decide +kernel) ⟨Nat.le_of_ble_eq_true rfl, Nat.le_of_ble_eq_true rfl⟩) (tw_preV hK hP hD _) rfl rfl hl.1 rfl (lv_room (Nat.le_of_ble_eq_true rfl)) dX5_step_10 ⟨Nat.le_of_ble_eq_true rfl, Nat.le_of_ble_eq_true rfl⟩) hS hD hAA (fun rr uu H locs hw hP hD hS => ?_)
  obtain rfl : r2 = rr := (congrArg Prod.fst hw).symm
  obtain rfl : u2 = uu := (congrArg Prod.snd hw).symm
  exact W.iret (v := r2) hx hb hr (fun t ht hW => ⟨⟨r2, u2, rfl, Option.some.inj hF, by rw [ht]; exact hP, va_K.moved hW.alike hK⟩, hS.F ht⟩) hS.2.2 dX5_step_13

def F_run_1 (R : Nat → Tw → Int32 → Int32 → Int32 → Option (Int32 × Tw)) (n : Nat) (σ : Tw) (x1 : Int32) (x2 : Int32) (x3 : Int32) : Option (Int32 × Tw) := if x1 ≤ x3 then gd (inB 5 162) (some ((((σ).2 0 (5 : Int32).toNatClampNeg) - x2), σ)) else gd (inB 7 162) (if ((σ).2 0 (7 : Int32).toNatClampNeg) = 0 then bnd (F_steps n σ ) (fun r14 u14 => R 1 (tw_sf u14 20 r14) x1 x2 (x3 + 1)) else gd (inB 5 162) (some ((((σ).2 0 (5 : Int32).toNatClampNeg) - x2), σ)))
def F_run_r : Nat → Nat → Tw → Int32 → Int32 → Int32 → Option (Int32 × Tw)
  | 0 => fun _ _ _ _ _ => none
  | n + 1 => fun k => match k with  | _ => F_run_1 (F_run_r n) n
def F_run_0 (R : Nat → Tw → Int32 → Int32 → Int32 → Option (Int32 × Tw)) (n : Nat) (σ : Tw) (p1 : Int32) : Option (Int32 × Tw) := bnd (F_isIn σ p1 1 40) (fun r1 u1 => if r1 = 0 then if (((tw_sf u1 6 1)).1 6) ≤ 0 then bnd (F_keeps n (tw_sf u1 6 1) ) (fun r4 u4 => gd (inB 5 162) (R 1 u4 p1 ((u4).2 0 (5 : Int32).toNatClampNeg) 0)) else some (0, (tw_sf u1 6 1)) else if (((tw_sf u1 6 0)).1 6) ≤ 0 then bnd (F_keeps n (tw_sf u1 6 0) ) (fun r7 u7 => gd (inB 5 162) (R 1 u7 p1 ((u7).2 0 (5 : Int32).toNatClampNeg) 0)) else some (0, (tw_sf u1 6 0)))
def F_run (n : Nat) (σ : Tw) (p1 : Int32) : Option (Int32 × Tw) := F_run_0 (F_run_r n) n σ p1
set_option maxHeartbeats 4000000 in
set_option maxRecDepth 100000 in
theorem mt_run (l : Launch) (dC : Nat → ClassId) (dI : Nat → Nat → Nat) (cI cZ : ClassId) (m0 : Nat) (ad : Nat → Nat) (sz : Nat) (σ : Tw) (n : Nat)  (p1 : Int32) (out : Int32 × Tw) (hF : F_run n σ p1 = some out) : Met l yX5_run (ws_ yX5_run cX5_run 4 (some .int)) ({ frames := 8, cells := 0, slots := 0, locals := 177 }) (va_Pc [.ref m0, .int p1] (tw_Pre dC dI cI cZ m0 ad sz σ)) (va_Qi (fun r u => (r, u) = out) (tw_B dC dI cI cZ m0 ad) (tw_A m0 ad sz)) 0 0 (tw_A m0 ad sz) := by
  refine Met.ofW (cc := cX5_run) (maxL := 4) (ret := (some .int)) (by decide +kernel) rfl ?_
  intro p e s m args below meth c s₁ B hml hv
  obtain ⟨rfl, hsz, hP, hK, hD0⟩ := hv
  have hx := B.exec
  have hb := B.bytes
  have hr := B.returns
  have hts := atoms_spec (ws := (ws_ yX5_run cX5_run 4 (some .int))) B.pre
  have hts : ∀ w ∈ lw_all, w.before _ s = true := fun w h => hts w (List.mem_cons_of_mem _ h)
  have hown : s.vm.findClass RX5 = some m.cls := findClass_of_methodNamed B.named
  have hlocks := B.notSynchronized
  subst hsz
  have hD := tw_Ds (z := s.heap.size) hD0
  have hAA := fun z (h : s.heap.size ≤ z) => tw_Am (m0 := m0) (ad := ad) h
  generalize hAe : tw_A m0 ad s.heap.size = A at hD hAA ⊢
  have hS : va_S A s.heap s.heap [] := va_S.rf
  have hP : va_P (dC, dI) vwCl (tw_ws m0 ad cI cZ σ) s.heap := hP
  have hl := lv_entry ([.ref m0, .int p1]) (n := 4) (Nat.le_of_ble_eq_true rfl)
  rw [lg_entry_eq]
  generalize (lg_sl ([.ref m0, .int p1]) ++ List.replicate (4 - (lg_sl ([.ref m0, .int p1])).length) Slot.unset).toArray = ls at hl ⊢
  have hl : lv_has ls 4 [(0, .ref m0), (1, .int p1)] := hl
  have loop : ∀ n : Nat, (∀ (σ : Tw) (x1 x2 x3 : Int32), F_run_r n 1 σ x1 x2 x3 = some out → ∀ (H : Heap) (locs : List Loc), va_P (dC, dI) vwCl (tw_ws m0 ad cI cZ σ) H → va_D A (tw_ws m0 ad cI cZ σ) → va_S A s.heap H locs → ∀ ls : Array Slot, lv_has ls 4 [(0, .ref m0), (1, .int x1), (2, .int x2), (3, .int x3)] → W p l e (headSpec (ws_ yX5_run cX5_run 4 (some .int)) ({ frames := 8, cells := 0, slots := 0, locals := 177 })).room s m ([.ref m0, .int p1] : List Value).toArray below meth c H locs 0 0 (MQ below (va_Qi (fun r u => (r, u) = out) (tw_B dC dI cI cZ m0 ad) A) ([.ref m0, .int p1] : List Value).toArray s 0 0 A) (F0 m 41 ls [])) := by
    intro n
    induction n with
    | zero => exact (fun _ _ _ _ h => nomatch h)
    | succ n ih =>
      have lp1 := ih
      intro σ x1 x2 x3 hF H locs hP hD hS ls hl
      replace hF : F_run_1 (F_run_r n) n σ x1 x2 x3 = some out := hF
      unfold F_run_1 at hF
      refine lv_iload_n hx hb dX5_run_41 rfl (lv_at hl 3 rfl) ?_
      refine lv_iload_n hx hb dX5_run_42 rfl (lv_at hl 1 rfl) ?_
      refine lv_icmp_ge (tgt := 70) hx hb dX5_run_43 (by decide) (fun c9 => ?_) (fun c9 => ?_)
      · replace hF := it_t c9 hF
        refine lv_aload_n hx hb dX5_run_70 rfl (lv_at hl 0 rfl) ?_
        refine va_get (D := (dC, dI)) (ci := 0) (v := .ref (ad 0)) (C := RX5) (T := TX5) (N := 28) hx hb hts in_X5 hown hK hP 0 tw_g rfl 0 (by decide) (hts _ q1986) (fun _ h9 => h9) rfl dX5_run_71 ?_
        refine lv_iconst (v := 5) hx hb dX5_run_74 (by decide) ?_
        obtain ⟨g10, hF⟩ := gd_s hF
        refine va_iald hx hb hK hP 1 0 tw_e0 rfl (inB_in g10) dX5_run_75 ?_
        refine lv_iload_n hx hb dX5_run_76 rfl (lv_at hl 2 rfl) ?_
        refine lv_isub hx hb dX5_run_77 ?_
        exact W.iret (v := (((σ).2 0 (5 : Int32).toNatClampNeg) - x2)) hx hb hr (fun t ht hW => ⟨⟨(((σ).2 0 (5 : Int32).toNatClampNeg) - x2), σ, rfl, Option.some.inj hF, by rw [ht]; exact hP, va_K.moved hW.alike hK⟩, hS.F ht⟩) hS.2.2 dX5_run_78
      · replace hF := it_f c9 hF
        refine lv_aload_n hx hb dX5_run_46 rfl (lv_at hl 0 rfl) ?_
        refine va_get (D := (dC, dI)) (ci := 0) (v := .ref (ad 0)) (C := RX5) (T := TX5) (N := 28) hx hb hts in_X5 hown hK hP 0 tw_g rfl 0 (by decide) (hts _ q1986) (fun _ h9 => h9) rfl dX5_run_47 ?_
        refine lv_bipush (v := 7) hx hb dX5_run_50 (by decide) ?_
        obtain ⟨g11, hF⟩ := gd_s hF
        refine va_iald hx hb hK hP 1 0 tw_e0 rfl (inB_in g11) dX5_run_52 ?_
        refine lv_if_ne (tgt := 70) hx hb dX5_run_53 (by decide) (fun c12 => ?_) (fun c12 => ?_)
        · replace hF := it_f c12 hF
          refine lv_aload_n hx hb dX5_run_70 rfl (lv_at hl 0 rfl) ?_
          refine va_get (D := (dC, dI)) (ci := 0) (v := .ref (ad 0)) (C := RX5) (T := TX5) (N := 28) hx hb hts in_X5 hown hK hP 0 tw_g rfl 0 (by decide) (hts _ q1986) (fun _ h9 => h9) rfl dX5_run_71 ?_
          refine lv_iconst (v := 5) hx hb dX5_run_74 (by decide) ?_
          obtain ⟨g13, hF⟩ := gd_s hF
          refine va_iald hx hb hK hP 1 0 tw_e0 rfl (inB_in g13) dX5_run_75 ?_
          refine lv_iload_n hx hb dX5_run_76 rfl (lv_at hl 2 rfl) ?_
          refine lv_isub hx hb dX5_run_77 ?_
          exact W.iret (v := (((σ).2 0 (5 : Int32).toNatClampNeg) - x2)) hx hb hr (fun t ht hW => ⟨⟨(((σ).2 0 (5 : Int32).toNatClampNeg) - x2), σ, rfl, Option.some.inj hF, by rw [ht]; exact hP, va_K.moved hW.alike hK⟩, hS.F ht⟩) hS.2.2 dX5_run_78
        · replace hF := it_t c12 hF
          refine lv_aload_n hx hb dX5_run_56 rfl (lv_at hl 0 rfl) ?_
          refine lv_aload_n hx hb dX5_run_57 rfl (lv_at hl 0 rfl) ?_
          obtain ⟨r14, u14, e14, hF⟩ := bnd_s hF
          refine tw_calli (va_runV (As := []) (rest := [.ref m0]) ⟨hx, hb, hml, hown, hts⟩ (mt_steps l dC dI cI cZ m0 ad H.size σ n   _ e14) (cwV 0 hts (lw_V q2225 q2227 qs63 q125 q2228) rfl rfl rfl (by decide +kernel) ⟨Nat.le_of_ble_eq_true rfl, Nat.le_of_ble_eq_true rfl⟩) (tw_preV hK hP hD _) rfl rfl hl.1 rfl (lv_room (Nat.le_of_ble_eq_true rfl)) dX5_run_58 ⟨Nat.le_of_ble_eq_true rfl, Nat.le_of_ble_eq_true rfl⟩) hS hD hAA (fun rr uu H locs hw hP hD hS => ?_)
          obtain rfl : r14 = rr := (congrArg Prod.fst hw).symm
          obtain rfl : u14 = uu := (congrArg Prod.snd hw).symm
          refine va_put (D := (dC, dI)) (ci := 0) (v := .int r14) (ty := .int) (C := RX5) (T := TX5) (N := 28) hx hb hts in_X5 tyX5 tyX5_ok nmX5 hown hK hP hD hS 0 tw_g rfl 20 (by decide) (hts _ q2006) (fun _ h9 => h9) rfl (tyX5_ok 20 (by decide)) rfl rfl (Nat.le_of_ble_eq_true rfl) dX5_run_61 (fun H locs hP hD hS => ?_)
          rw [tw_p20] at hP hD
          refine lv_iinc (v := (x3 + 1)) (lv' := [(3, .int (x3 + 1)), (0, .ref m0), (1, .int x1), (2, .int x2)]) hx hb dX5_run_64 hl (k := 3) rfl rfl (by decide) rfl (fun ls hl => ?_)
          refine lv_goto (tgt := 41) hx hb dX5_run_67 (by decide) ?_
          exact lp1 (tw_sf u14 20 r14) x1 x2 (x3 + 1) hF _ _ hP hD hS ls (lv_sub hl [1, 2, 3, 0] rfl)
  have lp1 := loop n
  unfold F_run F_run_0 at hF
  refine lv_aload_n hx hb dX5_run_0 rfl (lv_at hl 0 rfl) ?_
  refine lv_iload_n hx hb dX5_run_1 rfl (lv_at hl 1 rfl) ?_
  refine lv_iconst (v := 1) hx hb dX5_run_2 (by decide) ?_
  refine lv_bipush (v := 40) hx hb dX5_run_3 (by decide) ?_
  obtain ⟨r1, u1, e1, hF⟩ := bnd_s hF
  refine tw_calli (va_runS (As := [.int p1, .int 1, .int 40]) (rest := [.ref m0]) ⟨hx, hb, hml, hown, hts⟩ (mt_isIn l dC dI cI cZ m0 ad s.heap.size σ  p1 1 40 _ e1) (va_cwS 3 hts (lw_S q2084 q2085 q125 q2086) rfl rfl rfl (by decide +kernel) ⟨Nat.le_of_ble_eq_true rfl, Nat.le_of_ble_eq_true rfl⟩) (tw_preS hK hP hD _) rfl rfl hl.1 rfl (lv_room (Nat.le_of_ble_eq_true rfl)) dX5_run_5 ⟨Nat.le_of_ble_eq_true rfl, Nat.le_of_ble_eq_true rfl⟩) hS hD hAA (fun rr uu H locs hw hP hD hS => ?_)
  obtain rfl : r1 = rr := (congrArg Prod.fst hw).symm
  obtain rfl : u1 = uu := (congrArg Prod.snd hw).symm
  refine lv_if_eq (tgt := 15) hx hb dX5_run_8 (by decide) (fun c2 => ?_) (fun c2 => ?_)
  · replace hF := it_t c2 hF
    refine lv_iconst (v := 1) hx hb dX5_run_15 (by decide) ?_
    refine va_put (D := (dC, dI)) (ci := 0) (v := .int 1) (ty := .int) (C := RX5) (T := TX5) (N := 28) hx hb hts in_X5 tyX5 tyX5_ok nmX5 hown hK hP hD hS 0 tw_g rfl 6 (by decide) (hts _ q1992) (fun _ h9 => h9) rfl (tyX5_ok 6 (by decide)) rfl rfl (Nat.le_of_ble_eq_true rfl) dX5_run_16 (fun H locs hP hD hS => ?_)
    rw [tw_p6] at hP hD
    refine lv_aload_n hx hb dX5_run_19 rfl (lv_at hl 0 rfl) ?_
    refine va_get (D := (dC, dI)) (ci := 0) (v := .int (((tw_sf u1 6 1)).1 6)) (C := RX5) (T := TX5) (N := 28) hx hb hts in_X5 hown hK hP 0 tw_g rfl 6 (by decide) (hts _ q1992) (fun _ h9 => h9) rfl dX5_run_20 ?_
    refine lv_if_le (tgt := 28) hx hb dX5_run_23 (by decide) (fun c3 => ?_) (fun c3 => ?_)
    · replace hF := it_t c3 hF
      refine lv_aload_n hx hb dX5_run_28 rfl (lv_at hl 0 rfl) ?_
      obtain ⟨r4, u4, e4, hF⟩ := bnd_s hF
      refine tw_callv (va_runV (As := []) (rest := []) ⟨hx, hb, hml, hown, hts⟩ (mt_keeps l dC dI cI cZ m0 ad H.size (tw_sf u1 6 1) n   _ e4) (cwV 0 hts (lw_V q2091 q2093 qs46 q125 q2094) rfl rfl rfl (by decide +kernel) ⟨Nat.le_of_ble_eq_true rfl, Nat.le_of_ble_eq_true rfl⟩) (tw_preV hK hP hD _) rfl rfl hl.1 rfl (lv_room (Nat.le_of_ble_eq_true rfl)) dX5_run_29 ⟨Nat.le_of_ble_eq_true rfl, Nat.le_of_ble_eq_true rfl⟩) hS hD hAA (fun uu H locs hw hP hD hS => ?_)
      obtain rfl : u4 = uu := (congrArg Prod.snd hw).symm
      refine lv_aload_n hx hb dX5_run_32 rfl (lv_at hl 0 rfl) ?_
      refine va_get (D := (dC, dI)) (ci := 0) (v := .ref (ad 0)) (C := RX5) (T := TX5) (N := 28) hx hb hts in_X5 hown hK hP 0 tw_g rfl 0 (by decide) (hts _ q1986) (fun _ h9 => h9) rfl dX5_run_33 ?_
      refine lv_iconst (v := 5) hx hb dX5_run_36 (by decide) ?_
      obtain ⟨g5, hF⟩ := gd_s hF
      refine va_iald hx hb hK hP 1 0 tw_e0 rfl (inB_in g5) dX5_run_37 ?_
      refine lv_istore_n (lv' := [(2, .int ((u4).2 0 (5 : Int32).toNatClampNeg)), (0, .ref m0), (1, .int p1)]) hx hb dX5_run_38 rfl hl (by decide) rfl (fun ls hl => ?_)
      refine lv_iconst (v := 0) hx hb dX5_run_39 (by decide) ?_
      refine lv_istore_n (lv' := [(3, .int 0), (2, .int ((u4).2 0 (5 : Int32).toNatClampNeg)), (0, .ref m0), (1, .int p1)]) hx hb dX5_run_40 rfl hl (by decide) rfl (fun ls hl => ?_)
      exact lp1 u4 p1 ((u4).2 0 (5 : Int32).toNatClampNeg) 0 hF _ _ hP hD hS ls (lv_sub hl [2, 3, 1, 0] rfl)
    · replace hF := it_f c3 hF
      refine lv_iconst (v := 0) hx hb dX5_run_26 (by decide) ?_
      exact W.iret (v := 0) hx hb hr (fun t ht hW => ⟨⟨0, (tw_sf u1 6 1), rfl, Option.some.inj hF, by rw [ht]; exact hP, va_K.moved hW.alike hK⟩, hS.F ht⟩) hS.2.2 dX5_run_27
  · replace hF := it_f c2 hF
    refine lv_iconst (v := 0) hx hb dX5_run_11 (by decide) ?_
    refine lv_goto (tgt := 16) hx hb dX5_run_12 (by decide) ?_
    refine va_put (D := (dC, dI)) (ci := 0) (v := .int 0) (ty := .int) (C := RX5) (T := TX5) (N := 28) hx hb hts in_X5 tyX5 tyX5_ok nmX5 hown hK hP hD hS 0 tw_g rfl 6 (by decide) (hts _ q1992) (fun _ h9 => h9) rfl (tyX5_ok 6 (by decide)) rfl rfl (Nat.le_of_ble_eq_true rfl) dX5_run_16 (fun H locs hP hD hS => ?_)
    rw [tw_p6] at hP hD
    refine lv_aload_n hx hb dX5_run_19 rfl (lv_at hl 0 rfl) ?_
    refine va_get (D := (dC, dI)) (ci := 0) (v := .int (((tw_sf u1 6 0)).1 6)) (C := RX5) (T := TX5) (N := 28) hx hb hts in_X5 hown hK hP 0 tw_g rfl 6 (by decide) (hts _ q1992) (fun _ h9 => h9) rfl dX5_run_20 ?_
    refine lv_if_le (tgt := 28) hx hb dX5_run_23 (by decide) (fun c6 => ?_) (fun c6 => ?_)
    · replace hF := it_t c6 hF
      refine lv_aload_n hx hb dX5_run_28 rfl (lv_at hl 0 rfl) ?_
      obtain ⟨r7, u7, e7, hF⟩ := bnd_s hF
      refine tw_callv (va_runV (As := []) (rest := []) ⟨hx, hb, hml, hown, hts⟩ (mt_keeps l dC dI cI cZ m0 ad H.size (tw_sf u1 6 0) n   _ e7) (cwV 0 hts (lw_V q2091 q2093 qs46 q125 q2094) rfl rfl rfl (by decide +kernel) ⟨Nat.le_of_ble_eq_true rfl, Nat.le_of_ble_eq_true rfl⟩) (tw_preV hK hP hD _) rfl rfl hl.1 rfl (lv_room (Nat.le_of_ble_eq_true rfl)) dX5_run_29 ⟨Nat.le_of_ble_eq_true rfl, Nat.le_of_ble_eq_true rfl⟩) hS hD hAA (fun uu H locs hw hP hD hS => ?_)
      obtain rfl : u7 = uu := (congrArg Prod.snd hw).symm
      refine lv_aload_n hx hb dX5_run_32 rfl (lv_at hl 0 rfl) ?_
      refine va_get (D := (dC, dI)) (ci := 0) (v := .ref (ad 0)) (C := RX5) (T := TX5) (N := 28) hx hb hts in_X5 hown hK hP 0 tw_g rfl 0 (by decide) (hts _ q1986) (fun _ h9 => h9) rfl dX5_run_33 ?_
      refine lv_iconst (v := 5) hx hb dX5_run_36 (by decide) ?_
      obtain ⟨g8, hF⟩ := gd_s hF
      refine va_iald hx hb hK hP 1 0 tw_e0 rfl (inB_in g8) dX5_run_37 ?_
      refine lv_istore_n (lv' := [(2, .int ((u7).2 0 (5 : Int32).toNatClampNeg)), (0, .ref m0), (1, .int p1)]) hx hb dX5_run_38 rfl hl (by decide) rfl (fun ls hl => ?_)
      refine lv_iconst (v := 0) hx hb dX5_run_39 (by decide) ?_
      refine lv_istore_n (lv' := [(3, .int 0), (2, .int ((u7).2 0 (5 : Int32).toNatClampNeg)), (0, .ref m0), (1, .int p1)]) hx hb dX5_run_40 rfl hl (by decide) rfl (fun ls hl => ?_)
      exact lp1 u7 p1 ((u7).2 0 (5 : Int32).toNatClampNeg) 0 hF _ _ hP hD hS ls (lv_sub hl [2, 3, 1, 0] rfl)
    · replace hF := it_f c6 hF
      refine lv_iconst (v := 0) hx hb dX5_run_26 (by decide) ?_
      exact W.iret (v := 0) hx hb hr (fun t ht hW => ⟨⟨0, (tw_sf u1 6 0), rfl, Option.some.inj hF, by rw [ht]; exact hP, va_K.moved hW.alike hK⟩, hS.F ht⟩) hS.2.2 dX5_run_27

def F_reset (n : Nat) (σ : Tw) : Option (Int32 × Tw) := bnd (F_keeps n (tw_sf σ 6 0) ) (fun r1 u1 => gd (inB 5 162) (bnd (F_resets n u1 ) (fun r3 u3 => some (((u1).2 0 (5 : Int32).toNatClampNeg), u3))))
set_option maxHeartbeats 4000000 in
set_option maxRecDepth 100000 in
theorem mt_reset (l : Launch) (dC : Nat → ClassId) (dI : Nat → Nat → Nat) (cI cZ : ClassId) (m0 : Nat) (ad : Nat → Nat) (sz : Nat) (σ : Tw) (n : Nat)  (out : Int32 × Tw) (hF : F_reset n σ  = some out) : Met l yX5_reset (ws_ yX5_reset cX5_reset 2 (some .int)) ({ frames := 1, cells := 0, slots := 0, locals := 21 }) (va_Pc [.ref m0] (tw_Pre dC dI cI cZ m0 ad sz σ)) (va_Qi (fun r u => (r, u) = out) (tw_B dC dI cI cZ m0 ad) (tw_A m0 ad sz)) 0 0 (tw_A m0 ad sz) := by
  refine Met.ofW (cc := cX5_reset) (maxL := 2) (ret := (some .int)) (by decide +kernel) rfl ?_
  intro p e s m args below meth c s₁ B hml hv
  obtain ⟨rfl, hsz, hP, hK, hD0⟩ := hv
  have hx := B.exec
  have hb := B.bytes
  have hr := B.returns
  have hts := atoms_spec (ws := (ws_ yX5_reset cX5_reset 2 (some .int))) B.pre
  have hts : ∀ w ∈ lw_all, w.before _ s = true := fun w h => hts w (List.mem_cons_of_mem _ h)
  have hown : s.vm.findClass RX5 = some m.cls := findClass_of_methodNamed B.named
  have hlocks := B.notSynchronized
  subst hsz
  have hD := tw_Ds (z := s.heap.size) hD0
  have hAA := fun z (h : s.heap.size ≤ z) => tw_Am (m0 := m0) (ad := ad) h
  generalize hAe : tw_A m0 ad s.heap.size = A at hD hAA ⊢
  have hS : va_S A s.heap s.heap [] := va_S.rf
  have hP : va_P (dC, dI) vwCl (tw_ws m0 ad cI cZ σ) s.heap := hP
  have hl := lv_entry ([.ref m0]) (n := 2) (Nat.le_of_ble_eq_true rfl)
  rw [lg_entry_eq]
  generalize (lg_sl ([.ref m0]) ++ List.replicate (2 - (lg_sl ([.ref m0])).length) Slot.unset).toArray = ls at hl ⊢
  have hl : lv_has ls 2 [(0, .ref m0)] := hl
  unfold F_reset at hF
  refine lv_aload_n hx hb dX5_reset_0 rfl (lv_at hl 0 rfl) ?_
  refine lv_iconst (v := 0) hx hb dX5_reset_1 (by decide) ?_
  refine va_put (D := (dC, dI)) (ci := 0) (v := .int 0) (ty := .int) (C := RX5) (T := TX5) (N := 28) hx hb hts in_X5 tyX5 tyX5_ok nmX5 hown hK hP hD hS 0 tw_g rfl 6 (by decide) (hts _ q1992) (fun _ h9 => h9) rfl (tyX5_ok 6 (by decide)) rfl rfl (Nat.le_of_ble_eq_true rfl) dX5_reset_2 (fun H locs hP hD hS => ?_)
  rw [tw_p6] at hP hD
  refine lv_aload_n hx hb dX5_reset_5 rfl (lv_at hl 0 rfl) ?_
  obtain ⟨r1, u1, e1, hF⟩ := bnd_s hF
  refine tw_callv (va_runV (As := []) (rest := []) ⟨hx, hb, hml, hown, hts⟩ (mt_keeps l dC dI cI cZ m0 ad H.size (tw_sf σ 6 0) n   _ e1) (cwV 0 hts (lw_V q2091 q2093 qs46 q125 q2094) rfl rfl rfl (by decide +kernel) ⟨Nat.le_of_ble_eq_true rfl, Nat.le_of_ble_eq_true rfl⟩) (tw_preV hK hP hD _) rfl rfl hl.1 rfl (lv_room (Nat.le_of_ble_eq_true rfl)) dX5_reset_6 ⟨Nat.le_of_ble_eq_true rfl, Nat.le_of_ble_eq_true rfl⟩) hS hD hAA (fun uu H locs hw hP hD hS => ?_)
  obtain rfl : u1 = uu := (congrArg Prod.snd hw).symm
  refine lv_aload_n hx hb dX5_reset_9 rfl (lv_at hl 0 rfl) ?_
  refine va_get (D := (dC, dI)) (ci := 0) (v := .ref (ad 0)) (C := RX5) (T := TX5) (N := 28) hx hb hts in_X5 hown hK hP 0 tw_g rfl 0 (by decide) (hts _ q1986) (fun _ h9 => h9) rfl dX5_reset_10 ?_
  refine lv_iconst (v := 5) hx hb dX5_reset_13 (by decide) ?_
  obtain ⟨g2, hF⟩ := gd_s hF
  refine va_iald hx hb hK hP 1 0 tw_e0 rfl (inB_in g2) dX5_reset_14 ?_
  refine lv_istore_n (lv' := [(1, .int ((u1).2 0 (5 : Int32).toNatClampNeg)), (0, .ref m0)]) hx hb dX5_reset_15 rfl hl (by decide) rfl (fun ls hl => ?_)
  refine lv_aload_n hx hb dX5_reset_16 rfl (lv_at hl 1 rfl) ?_
  obtain ⟨r3, u3, e3, hF⟩ := bnd_s hF
  refine tw_callv (va_runV (As := []) (rest := []) ⟨hx, hb, hml, hown, hts⟩ (mt_resets l dC dI cI cZ m0 ad H.size u1 n   _ e3) (cwV 0 hts (lw_V q2197 q2199 qs61 q125 q2200) rfl rfl rfl (by decide +kernel) ⟨Nat.le_of_ble_eq_true rfl, Nat.le_of_ble_eq_true rfl⟩) (tw_preV hK hP hD _) rfl rfl hl.1 rfl (lv_room (Nat.le_of_ble_eq_true rfl)) dX5_reset_17 ⟨Nat.le_of_ble_eq_true rfl, Nat.le_of_ble_eq_true rfl⟩) hS hD hAA (fun uu H locs hw hP hD hS => ?_)
  obtain rfl : u3 = uu := (congrArg Prod.snd hw).symm
  refine lv_iload_n hx hb dX5_reset_20 rfl (lv_at hl 0 rfl) ?_
  exact W.iret (v := ((u1).2 0 (5 : Int32).toNatClampNeg)) hx hb hr (fun t ht hW => ⟨⟨((u1).2 0 (5 : Int32).toNatClampNeg), u3, rfl, Option.some.inj hF, by rw [ht]; exact hP, va_K.moved hW.alike hK⟩, hS.F ht⟩) hS.2.2 dX5_reset_21

def F_projectedOf (n : Nat) (σ : Tw) (p1 : Int32) (p2 : Int32) : Option (Int32 × Tw) := bnd (F_lays_x n σ p1) (fun r1 u1 => bnd (F_multiplies_xy n u1 ) (fun r2 u2 => bnd (F_partOf_y n u2 p2) (fun r3 u3 => some (r3, u3))))
set_option maxHeartbeats 4000000 in
set_option maxRecDepth 100000 in
theorem mt_projectedOf (l : Launch) (dC : Nat → ClassId) (dI : Nat → Nat → Nat) (cI cZ : ClassId) (m0 : Nat) (ad : Nat → Nat) (sz : Nat) (σ : Tw) (n : Nat)  (p1 : Int32) (p2 : Int32) (out : Int32 × Tw) (hF : F_projectedOf n σ p1 p2 = some out) : Met l yX5_projectedOf (ws_ yX5_projectedOf cX5_projectedOf 3 (some .int)) ({ frames := 5, cells := 0, slots := 0, locals := 112 }) (va_Pc [.ref m0, .int p1, .int p2] (tw_Pre dC dI cI cZ m0 ad sz σ)) (va_Qi (fun r u => (r, u) = out) (tw_B dC dI cI cZ m0 ad) (tw_A m0 ad sz)) 0 0 (tw_A m0 ad sz) := by
  refine Met.ofW (cc := cX5_projectedOf) (maxL := 3) (ret := (some .int)) (by decide +kernel) rfl ?_
  intro p e s m args below meth c s₁ B hml hv
  obtain ⟨rfl, hsz, hP, hK, hD0⟩ := hv
  have hx := B.exec
  have hb := B.bytes
  have hr := B.returns
  have hts := atoms_spec (ws := (ws_ yX5_projectedOf cX5_projectedOf 3 (some .int))) B.pre
  have hts : ∀ w ∈ lw_all, w.before _ s = true := fun w h => hts w (List.mem_cons_of_mem _ h)
  have hown : s.vm.findClass RX5 = some m.cls := findClass_of_methodNamed B.named
  have hlocks := B.notSynchronized
  subst hsz
  have hD := tw_Ds (z := s.heap.size) hD0
  have hAA := fun z (h : s.heap.size ≤ z) => tw_Am (m0 := m0) (ad := ad) h
  generalize hAe : tw_A m0 ad s.heap.size = A at hD hAA ⊢
  have hS : va_S A s.heap s.heap [] := va_S.rf
  have hP : va_P (dC, dI) vwCl (tw_ws m0 ad cI cZ σ) s.heap := hP
  have hl := lv_entry ([.ref m0, .int p1, .int p2]) (n := 3) (Nat.le_of_ble_eq_true rfl)
  rw [lg_entry_eq]
  generalize (lg_sl ([.ref m0, .int p1, .int p2]) ++ List.replicate (3 - (lg_sl ([.ref m0, .int p1, .int p2])).length) Slot.unset).toArray = ls at hl ⊢
  have hl : lv_has ls 3 [(0, .ref m0), (1, .int p1), (2, .int p2)] := hl
  unfold F_projectedOf at hF
  refine lv_aload_n hx hb dX5_projectedOf_0 rfl (lv_at hl 0 rfl) ?_
  refine lv_iload_n hx hb dX5_projectedOf_1 rfl (lv_at hl 1 rfl) ?_
  refine lv_aload_n hx hb dX5_projectedOf_2 rfl (lv_at hl 0 rfl) ?_
  refine va_get (D := (dC, dI)) (ci := 0) (v := .ref (ad 17)) (C := RX5) (T := TX5) (N := 28) hx hb hts in_X5 hown hK hP 0 tw_g rfl 17 (by decide) (hts _ q2003) (fun _ h9 => h9) rfl dX5_projectedOf_3 ?_
  obtain ⟨r1, u1, e1, hF⟩ := bnd_s hF
  refine tw_callv (va_runV (As := [.int p1, .ref (ad 17)]) (rest := []) ⟨hx, hb, hml, hown, hts⟩ (mt_lays_x l dC dI cI cZ m0 ad s.heap.size σ n  p1 _ e1) (cwV 2 hts (lw_V q2241 q2243 qs67 q125 q2244) rfl rfl rfl (by decide +kernel) ⟨Nat.le_of_ble_eq_true rfl, Nat.le_of_ble_eq_true rfl⟩) (tw_preV hK hP hD _) rfl rfl hl.1 rfl (lv_room (Nat.le_of_ble_eq_true rfl)) dX5_projectedOf_6 ⟨Nat.le_of_ble_eq_true rfl, Nat.le_of_ble_eq_true rfl⟩) hS hD hAA (fun uu H locs hw hP hD hS => ?_)
  obtain rfl : u1 = uu := (congrArg Prod.snd hw).symm
  refine lv_aload_n hx hb dX5_projectedOf_9 rfl (lv_at hl 0 rfl) ?_
  refine lv_aload_n hx hb dX5_projectedOf_10 rfl (lv_at hl 0 rfl) ?_
  refine va_get (D := (dC, dI)) (ci := 0) (v := .ref (ad 17)) (C := RX5) (T := TX5) (N := 28) hx hb hts in_X5 hown hK hP 0 tw_g rfl 17 (by decide) (hts _ q2003) (fun _ h9 => h9) rfl dX5_projectedOf_11 ?_
  refine lv_aload_n hx hb dX5_projectedOf_14 rfl (lv_at hl 0 rfl) ?_
  refine va_get (D := (dC, dI)) (ci := 0) (v := .ref (ad 18)) (C := RX5) (T := TX5) (N := 28) hx hb hts in_X5 hown hK hP 0 tw_g rfl 18 (by decide) (hts _ q2004) (fun _ h9 => h9) rfl dX5_projectedOf_15 ?_
  obtain ⟨r2, u2, e2, hF⟩ := bnd_s hF
  refine tw_callv (va_runV (As := [.ref (ad 17), .ref (ad 18)]) (rest := []) ⟨hx, hb, hml, hown, hts⟩ (mt_multiplies_xy l dC dI cI cZ m0 ad H.size u1 n   _ e2) (cwV 2 hts (lw_V q2249 q2251 qs69 q125 q2252) rfl rfl rfl (by decide +kernel) ⟨Nat.le_of_ble_eq_true rfl, Nat.le_of_ble_eq_true rfl⟩) (tw_preV hK hP hD _) rfl rfl hl.1 rfl (lv_room (Nat.le_of_ble_eq_true rfl)) dX5_projectedOf_18 ⟨Nat.le_of_ble_eq_true rfl, Nat.le_of_ble_eq_true rfl⟩) hS hD hAA (fun uu H locs hw hP hD hS => ?_)
  obtain rfl : u2 = uu := (congrArg Prod.snd hw).symm
  refine lv_aload_n hx hb dX5_projectedOf_21 rfl (lv_at hl 0 rfl) ?_
  refine lv_aload_n hx hb dX5_projectedOf_22 rfl (lv_at hl 0 rfl) ?_
  refine va_get (D := (dC, dI)) (ci := 0) (v := .ref (ad 18)) (C := RX5) (T := TX5) (N := 28) hx hb hts in_X5 hown hK hP 0 tw_g rfl 18 (by decide) (hts _ q2004) (fun _ h9 => h9) rfl dX5_projectedOf_23 ?_
  refine lv_iload_n hx hb dX5_projectedOf_26 rfl (lv_at hl 2 rfl) ?_
  obtain ⟨r3, u3, e3, hF⟩ := bnd_s hF
  refine tw_calli (va_runV (As := [.ref (ad 18), .int p2]) (rest := []) ⟨hx, hb, hml, hown, hts⟩ (mt_partOf_y l dC dI cI cZ m0 ad H.size u2 n  p2 _ e3) (cwV 2 hts (lw_V q2264 q2266 qs72 q125 q2267) rfl rfl rfl (by decide +kernel) ⟨Nat.le_of_ble_eq_true rfl, Nat.le_of_ble_eq_true rfl⟩) (tw_preV hK hP hD _) rfl rfl hl.1 rfl (lv_room (Nat.le_of_ble_eq_true rfl)) dX5_projectedOf_27 ⟨Nat.le_of_ble_eq_true rfl, Nat.le_of_ble_eq_true rfl⟩) hS hD hAA (fun rr uu H locs hw hP hD hS => ?_)
  obtain rfl : r3 = rr := (congrArg Prod.fst hw).symm
  obtain rfl : u3 = uu := (congrArg Prod.snd hw).symm
  exact W.iret (v := r3) hx hb hr (fun t ht hW => ⟨⟨r3, u3, rfl, Option.some.inj hF, by rw [ht]; exact hP, va_K.moved hW.alike hK⟩, hS.F ht⟩) hS.2.2 dX5_projectedOf_30

def F_works_1 (R : Nat → Tw → Int32 → Int32 → Int32 → Int32 → Int32 → Int32 → Int32 → Option (Int32 × Tw)) (n : Nat) (σ : Tw) (x1 : Int32) (x2 : Int32) (x3 : Int32) (x4 : Int32) (x5 : Int32) (x6 : Int32) (x7 : Int32) : Option (Int32 × Tw) := if 9 ≤ x4 then R 2 σ x1 x2 x3 0 0 0 0 else gd (inB x4 9) (if x4 = 0 then gd (inB x4 9) (R 1 (tw_sa (tw_sa σ 22 (x4).toNatClampNeg 0) 23 (x4).toNatClampNeg 1) x1 x2 x3 (x4 + 1) 0 0 0) else gd (inB x4 9) (R 1 (tw_sa (tw_sa σ 22 (x4).toNatClampNeg 0) 23 (x4).toNatClampNeg 0) x1 x2 x3 (x4 + 1) 0 0 0))
def F_works_2 (R : Nat → Tw → Int32 → Int32 → Int32 → Int32 → Int32 → Int32 → Int32 → Option (Int32 × Tw)) (n : Nat) (σ : Tw) (x1 : Int32) (x2 : Int32) (x3 : Int32) (x4 : Int32) (x5 : Int32) (x6 : Int32) (x7 : Int32) : Option (Int32 × Tw) := if x2 ≤ x4 then some (x2, σ) else bnd (F_projectedOf n σ (x3 + x4) (x3 + x4)) (fun r9 u9 => if x4 = 0 then R 3 u9 x1 x2 x3 x4 r9 0 0 else bnd (F_normOf n u9 (x3 + x4)) (fun r11 u11 => bnd (F_normOf n u11 ((x3 + x4) - 1)) (fun r12 u12 => bnd (F_quotient n u12 r11 r12) (fun r13 u13 => R 3 u13 x1 x2 x3 x4 r9 r13 0))))
def F_works_3 (R : Nat → Tw → Int32 → Int32 → Int32 → Int32 → Int32 → Int32 → Int32 → Option (Int32 × Tw)) (n : Nat) (σ : Tw) (x1 : Int32) (x2 : Int32) (x3 : Int32) (x4 : Int32) (x5 : Int32) (x6 : Int32) (x7 : Int32) : Option (Int32 × Tw) := if 9 ≤ x7 then R 4 σ x1 x2 x3 x4 x5 x6 0 else gd (inB x7 9) (gd (inB x7 9) (gd (inB x7 9) (gd (inB x7 9) (R 3 (tw_sa (tw_sa σ 21 (x7).toNatClampNeg ((σ).2 22 (x7).toNatClampNeg)) 22 (x7).toNatClampNeg (((tw_sa σ 21 (x7).toNatClampNeg ((σ).2 22 (x7).toNatClampNeg))).2 23 (x7).toNatClampNeg)) x1 x2 x3 x4 x5 x6 (x7 + 1)))))
def F_works_4 (R : Nat → Tw → Int32 → Int32 → Int32 → Int32 → Int32 → Int32 → Int32 → Option (Int32 × Tw)) (n : Nat) (σ : Tw) (x1 : Int32) (x2 : Int32) (x3 : Int32) (x4 : Int32) (x5 : Int32) (x6 : Int32) (x7 : Int32) : Option (Int32 × Tw) := if 9 ≤ x7 then R 2 σ x1 x2 x3 (x4 + 1) x5 x6 x7 else if x7 = 0 then gd (inB x7 9) (gd (inB x7 9) (bnd (F_mod σ ((0 - (x5 * ((σ).2 22 (x7).toNatClampNeg))) - (x6 * ((σ).2 21 (x7).toNatClampNeg)))) (fun r28 u28 => gd (inB x7 9) (R 4 (tw_sa u28 23 (x7).toNatClampNeg r28) x1 x2 x3 x4 x5 x6 (x7 + 1))))) else gd (inB (x7 - 1) 9) (gd (inB x7 9) (gd (inB x7 9) (bnd (F_mod σ ((((σ).2 22 ((x7 - 1)).toNatClampNeg) - (x5 * ((σ).2 22 (x7).toNatClampNeg))) - (x6 * ((σ).2 21 (x7).toNatClampNeg)))) (fun r24 u24 => gd (inB x7 9) (R 4 (tw_sa u24 23 (x7).toNatClampNeg r24) x1 x2 x3 x4 x5 x6 (x7 + 1))))))
def F_works_r : Nat → Nat → Tw → Int32 → Int32 → Int32 → Int32 → Int32 → Int32 → Int32 → Option (Int32 × Tw)
  | 0 => fun _ _ _ _ _ _ _ _ _ => none
  | n + 1 => fun k => match k with | 1 => F_works_1 (F_works_r n) n | 2 => F_works_2 (F_works_r n) n | 3 => F_works_3 (F_works_r n) n | _ => F_works_4 (F_works_r n) n
def F_works_0 (R : Nat → Tw → Int32 → Int32 → Int32 → Int32 → Int32 → Int32 → Int32 → Option (Int32 × Tw)) (n : Nat) (σ : Tw) (p1 : Int32) : Option (Int32 × Tw) := bnd (F_directionsOf n σ p1) (fun r1 u1 => bnd (F_firstOf n u1 p1) (fun r2 u2 => R 1 u2 p1 r1 r2 0 0 0 0))
def F_works (n : Nat) (σ : Tw) (p1 : Int32) : Option (Int32 × Tw) := F_works_0 (F_works_r n) n σ p1
set_option maxHeartbeats 4000000 in
set_option maxRecDepth 100000 in
theorem mt_works (l : Launch) (dC : Nat → ClassId) (dI : Nat → Nat → Nat) (cI cZ : ClassId) (m0 : Nat) (ad : Nat → Nat) (sz : Nat) (σ : Tw) (n : Nat)  (p1 : Int32) (out : Int32 × Tw) (hF : F_works n σ p1 = some out) : Met l yX5_works (ws_ yX5_works cX5_works 8 (some .int)) ({ frames := 6, cells := 0, slots := 0, locals := 134 }) (va_Pc [.ref m0, .int p1] (tw_Pre dC dI cI cZ m0 ad sz σ)) (va_Qi (fun r u => (r, u) = out) (tw_B dC dI cI cZ m0 ad) (tw_A m0 ad sz)) 0 0 (tw_A m0 ad sz) := by
  refine Met.ofW (cc := cX5_works) (maxL := 8) (ret := (some .int)) (by decide +kernel) rfl ?_
  intro p e s m args below meth c s₁ B hml hv
  obtain ⟨rfl, hsz, hP, hK, hD0⟩ := hv
  have hx := B.exec
  have hb := B.bytes
  have hr := B.returns
  have hts := atoms_spec (ws := (ws_ yX5_works cX5_works 8 (some .int))) B.pre
  have hts : ∀ w ∈ lw_all, w.before _ s = true := fun w h => hts w (List.mem_cons_of_mem _ h)
  have hown : s.vm.findClass RX5 = some m.cls := findClass_of_methodNamed B.named
  have hlocks := B.notSynchronized
  subst hsz
  have hD := tw_Ds (z := s.heap.size) hD0
  have hAA := fun z (h : s.heap.size ≤ z) => tw_Am (m0 := m0) (ad := ad) h
  generalize hAe : tw_A m0 ad s.heap.size = A at hD hAA ⊢
  have hS : va_S A s.heap s.heap [] := va_S.rf
  have hP : va_P (dC, dI) vwCl (tw_ws m0 ad cI cZ σ) s.heap := hP
  have hl := lv_entry ([.ref m0, .int p1]) (n := 8) (Nat.le_of_ble_eq_true rfl)
  rw [lg_entry_eq]
  generalize (lg_sl ([.ref m0, .int p1]) ++ List.replicate (8 - (lg_sl ([.ref m0, .int p1])).length) Slot.unset).toArray = ls at hl ⊢
  have hl : lv_has ls 8 [(0, .ref m0), (1, .int p1)] := hl
  have loop : ∀ n : Nat, (∀ (σ : Tw) (x1 x2 x3 x4 x5 x6 x7 : Int32), F_works_r n 1 σ x1 x2 x3 x4 x5 x6 x7 = some out → ∀ (H : Heap) (locs : List Loc), va_P (dC, dI) vwCl (tw_ws m0 ad cI cZ σ) H → va_D A (tw_ws m0 ad cI cZ σ) → va_S A s.heap H locs → ∀ ls : Array Slot, lv_has ls 8 [(0, .ref m0), (1, .int x1), (2, .int x2), (3, .int x3), (4, .int x4)] → W p l e (headSpec (ws_ yX5_works cX5_works 8 (some .int)) ({ frames := 6, cells := 0, slots := 0, locals := 134 })).room s m ([.ref m0, .int p1] : List Value).toArray below meth c H locs 0 0 (MQ below (va_Qi (fun r u => (r, u) = out) (tw_B dC dI cI cZ m0 ad) A) ([.ref m0, .int p1] : List Value).toArray s 0 0 A) (F0 m 15 ls [])) ∧ (∀ (σ : Tw) (x1 x2 x3 x4 x5 x6 x7 : Int32), F_works_r n 2 σ x1 x2 x3 x4 x5 x6 x7 = some out → ∀ (H : Heap) (locs : List Loc), va_P (dC, dI) vwCl (tw_ws m0 ad cI cZ σ) H → va_D A (tw_ws m0 ad cI cZ σ) → va_S A s.heap H locs → ∀ ls : Array Slot, lv_has ls 8 [(0, .ref m0), (1, .int x1), (2, .int x2), (3, .int x3), (4, .int x4)] → W p l e (headSpec (ws_ yX5_works cX5_works 8 (some .int)) ({ frames := 6, cells := 0, slots := 0, locals := 134 })).room s m ([.ref m0, .int p1] : List Value).toArray below meth c H locs 0 0 (MQ below (va_Qi (fun r u => (r, u) = out) (tw_B dC dI cI cZ m0 ad) A) ([.ref m0, .int p1] : List Value).toArray s 0 0 A) (F0 m 56 ls [])) ∧ (∀ (σ : Tw) (x1 x2 x3 x4 x5 x6 x7 : Int32), F_works_r n 3 σ x1 x2 x3 x4 x5 x6 x7 = some out → ∀ (H : Heap) (locs : List Loc), va_P (dC, dI) vwCl (tw_ws m0 ad cI cZ σ) H → va_D A (tw_ws m0 ad cI cZ σ) → va_S A s.heap H locs → ∀ ls : Array Slot, lv_has ls 8 [(0, .ref m0), (1, .int x1), (2, .int x2), (3, .int x3), (4, .int x4), (5, .int x5), (6, .int x6), (7, .int x7)] → W p l e (headSpec (ws_ yX5_works cX5_works 8 (some .int)) ({ frames := 6, cells := 0, slots := 0, locals := 134 })).room s m ([.ref m0, .int p1] : List Value).toArray below meth c H locs 0 0 (MQ below (va_Qi (fun r u => (r, u) = out) (tw_B dC dI cI cZ m0 ad) A) ([.ref m0, .int p1] : List Value).toArray s 0 0 A) (F0 m 112 ls [])) ∧ (∀ (σ : Tw) (x1 x2 x3 x4 x5 x6 x7 : Int32), F_works_r n 4 σ x1 x2 x3 x4 x5 x6 x7 = some out → ∀ (H : Heap) (locs : List Loc), va_P (dC, dI) vwCl (tw_ws m0 ad cI cZ σ) H → va_D A (tw_ws m0 ad cI cZ σ) → va_S A s.heap H locs → ∀ ls : Array Slot, lv_has ls 8 [(0, .ref m0), (1, .int x1), (2, .int x2), (3, .int x3), (4, .int x4), (5, .int x5), (6, .int x6), (7, .int x7)] → W p l e (headSpec (ws_ yX5_works cX5_works 8 (some .int)) ({ frames := 6, cells := 0, slots := 0, locals := 134 })).room s m ([.ref m0, .int p1] : List Value).toArray below meth c H locs 0 0 (MQ below (va_Qi (fun r u => (r, u) = out) (tw_B dC dI cI cZ m0 ad) A) ([.ref m0, .int p1] : List Value).toArray s 0 0 A) (F0 m 156 ls [])) := by
    intro n
    induction n with
    | zero => exact ⟨(fun _ _ _ _ _ _ _ _ h => nomatch h), (fun _ _ _ _ _ _ _ _ h => nomatch h), (fun _ _ _ _ _ _ _ _ h => nomatch h), (fun _ _ _ _ _ _ _ _ h => nomatch h)⟩
    | succ n ih =>
      obtain ⟨lp1, lp2, lp3, lp4⟩ := ih
      refine ⟨?_, ?_, ?_, ?_⟩
      · intro σ x1 x2 x3 x4 x5 x6 x7 hF H locs hP hD hS ls hl
        replace hF : F_works_1 (F_works_r n) n σ x1 x2 x3 x4 x5 x6 x7 = some out := hF
        unfold F_works_1 at hF
        refine lv_iload hx hb dX5_works_15 (lv_at hl 4 rfl) ?_
        refine lv_bipush (v := 9) hx hb dX5_works_17 (by decide) ?_
        refine lv_icmp_ge (tgt := 53) hx hb dX5_works_19 (by decide) (fun c3 => ?_) (fun c3 => ?_)
        · replace hF := it_t c3 hF
          refine lv_iconst (v := 0) hx hb dX5_works_53 (by decide) ?_
          refine lv_istore (lv' := [(4, .int 0), (0, .ref m0), (1, .int x1), (2, .int x2), (3, .int x3)]) hx hb dX5_works_54 hl (by decide) rfl (fun ls hl => ?_)
          exact lp2 σ x1 x2 x3 0 0 0 0 hF _ _ hP hD hS ls (lv_sub hl [1, 2, 3, 4, 0] rfl)
        · replace hF := it_f c3 hF
          refine lv_aload_n hx hb dX5_works_22 rfl (lv_at hl 0 rfl) ?_
          refine va_get (D := (dC, dI)) (ci := 0) (v := .ref (ad 22)) (C := RX5) (T := TX5) (N := 28) hx hb hts in_X5 hown hK hP 0 tw_g rfl 22 (by decide) (hts _ q2008) (fun _ h9 => h9) rfl dX5_works_23 ?_
          refine lv_iload hx hb dX5_works_26 (lv_at hl 4 rfl) ?_
          refine lv_iconst (v := 0) hx hb dX5_works_28 (by decide) ?_
          obtain ⟨g4, hF⟩ := gd_s hF
          refine va_iast hx hb hK hP hD hS 11 0 tw_e22 rfl (x := 0) (inB_in g4) dX5_works_29 (fun H locs hP hD hS => ?_)
          rw [tw_s22] at hP hD
          refine lv_aload_n hx hb dX5_works_30 rfl (lv_at hl 0 rfl) ?_
          refine va_get (D := (dC, dI)) (ci := 0) (v := .ref (ad 23)) (C := RX5) (T := TX5) (N := 28) hx hb hts in_X5 hown hK hP 0 tw_g rfl 23 (by decide) (hts _ q2009) (fun _ h9 => h9) rfl dX5_works_31 ?_
          refine lv_iload hx hb dX5_works_34 (lv_at hl 4 rfl) ?_
          refine lv_iload hx hb dX5_works_36 (lv_at hl 4 rfl) ?_
          refine lv_if_ne (tgt := 45) hx hb dX5_works_38 (by decide) (fun c5 => ?_) (fun c5 => ?_)
          · replace hF := it_f c5 hF
            refine lv_iconst (v := 0) hx hb dX5_works_45 (by decide) ?_
            obtain ⟨g6, hF⟩ := gd_s hF
            refine va_iast hx hb hK hP hD hS 12 0 tw_e23 rfl (x := 0) (inB_in g6) dX5_works_46 (fun H locs hP hD hS => ?_)
            rw [tw_s23] at hP hD
            refine lv_iinc (v := (x4 + 1)) (lv' := [(4, .int (x4 + 1)), (0, .ref m0), (1, .int x1), (2, .int x2), (3, .int x3)]) hx hb dX5_works_47 hl (k := 4) rfl rfl (by decide) rfl (fun ls hl => ?_)
            refine lv_goto (tgt := 15) hx hb dX5_works_50 (by decide) ?_
            exact lp1 (tw_sa (tw_sa σ 22 (x4).toNatClampNeg 0) 23 (x4).toNatClampNeg 0) x1 x2 x3 (x4 + 1) 0 0 0 hF _ _ hP hD hS ls (lv_sub hl [1, 2, 3, 4, 0] rfl)
          · replace hF := it_t c5 hF
            refine lv_iconst (v := 1) hx hb dX5_works_41 (by decide) ?_
            refine lv_goto (tgt := 46) hx hb dX5_works_42 (by decide) ?_
            obtain ⟨g7, hF⟩ := gd_s hF
            refine va_iast hx hb hK hP hD hS 12 0 tw_e23 rfl (x := 1) (inB_in g7) dX5_works_46 (fun H locs hP hD hS => ?_)
            rw [tw_s23] at hP hD
            refine lv_iinc (v := (x4 + 1)) (lv' := [(4, .int (x4 + 1)), (0, .ref m0), (1, .int x1), (2, .int x2), (3, .int x3)]) hx hb dX5_works_47 hl (k := 4) rfl rfl (by decide) rfl (fun ls hl => ?_)
            refine lv_goto (tgt := 15) hx hb dX5_works_50 (by decide) ?_
            exact lp1 (tw_sa (tw_sa σ 22 (x4).toNatClampNeg 0) 23 (x4).toNatClampNeg 1) x1 x2 x3 (x4 + 1) 0 0 0 hF _ _ hP hD hS ls (lv_sub hl [1, 2, 3, 4, 0] rfl)
      · intro σ x1 x2 x3 x4 x5 x6 x7 hF H locs hP hD hS ls hl
        replace hF : F_works_2 (F_works_r n) n σ x1 x2 x3 x4 x5 x6 x7 = some out := hF
        unfold F_works_2 at hF
        refine lv_iload hx hb dX5_works_56 (lv_at hl 4 rfl) ?_
        refine lv_iload_n hx hb dX5_works_58 rfl (lv_at hl 2 rfl) ?_
        refine lv_icmp_ge (tgt := 226) hx hb dX5_works_59 (by decide) (fun c8 => ?_) (fun c8 => ?_)
        · replace hF := it_t c8 hF
          refine lv_iload_n hx hb dX5_works_226 rfl (lv_at hl 2 rfl) ?_
          exact W.iret (v := x2) hx hb hr (fun t ht hW => ⟨⟨x2, σ, rfl, Option.some.inj hF, by rw [ht]; exact hP, va_K.moved hW.alike hK⟩, hS.F ht⟩) hS.2.2 dX5_works_227
        · replace hF := it_f c8 hF
          refine lv_aload_n hx hb dX5_works_62 rfl (lv_at hl 0 rfl) ?_
          refine lv_iload_n hx hb dX5_works_63 rfl (lv_at hl 3 rfl) ?_
          refine lv_iload hx hb dX5_works_64 (lv_at hl 4 rfl) ?_
          refine lv_iadd hx hb dX5_works_66 ?_
          refine lv_iload_n hx hb dX5_works_67 rfl (lv_at hl 3 rfl) ?_
          refine lv_iload hx hb dX5_works_68 (lv_at hl 4 rfl) ?_
          refine lv_iadd hx hb dX5_works_70 ?_
          obtain ⟨r9, u9, e9, hF⟩ := bnd_s hF
          refine tw_calli (va_runV (As := [.int (x3 + x4), .int (x3 + x4)]) (rest := []) ⟨hx, hb, hml, hown, hts⟩ (mt_projectedOf l dC dI cI cZ m0 ad H.size σ n  (x3 + x4) (x3 + x4) _ e9) (cwV 2 hts (lw_V q2336 q2338 qs87 q125 q2339) rfl rfl rfl (by decide +kernel) ⟨Nat.le_of_ble_eq_true rfl, Nat.le_of_ble_eq_true rfl⟩) (tw_preV hK hP hD _) rfl rfl hl.1 rfl (lv_room (Nat.le_of_ble_eq_true rfl)) dX5_works_71 ⟨Nat.le_of_ble_eq_true rfl, Nat.le_of_ble_eq_true rfl⟩) hS hD hAA (fun rr uu H locs hw hP hD hS => ?_)
          obtain rfl : r9 = rr := (congrArg Prod.fst hw).symm
          obtain rfl : u9 = uu := (congrArg Prod.snd hw).symm
          refine lv_istore (lv' := [(5, .int r9), (0, .ref m0), (1, .int x1), (2, .int x2), (3, .int x3), (4, .int x4)]) hx hb dX5_works_74 hl (by decide) rfl (fun ls hl => ?_)
          refine lv_iload hx hb dX5_works_76 (lv_at hl 5 rfl) ?_
          refine lv_if_ne (tgt := 85) hx hb dX5_works_78 (by decide) (fun c10 => ?_) (fun c10 => ?_)
          · replace hF := it_f c10 hF
            refine lv_aload_n hx hb dX5_works_85 rfl (lv_at hl 1 rfl) ?_
            refine lv_aload_n hx hb dX5_works_86 rfl (lv_at hl 1 rfl) ?_
            refine lv_iload_n hx hb dX5_works_87 rfl (lv_at hl 4 rfl) ?_
            refine lv_iload hx hb dX5_works_88 (lv_at hl 5 rfl) ?_
            refine lv_iadd hx hb dX5_works_90 ?_
            obtain ⟨r11, u11, e11, hF⟩ := bnd_s hF
            refine tw_calli (va_runV (As := [.int (x3 + x4)]) (rest := [.ref m0]) ⟨hx, hb, hml, hown, hts⟩ (mt_normOf l dC dI cI cZ m0 ad H.size u9 n  (x3 + x4) _ e11) (cwV 1 hts (lw_V q2268 q2270 qs73 q125 q2271) rfl rfl rfl (by decide +kernel) ⟨Nat.le_of_ble_eq_true rfl, Nat.le_of_ble_eq_true rfl⟩) (tw_preV hK hP hD _) rfl rfl hl.1 rfl (lv_room (Nat.le_of_ble_eq_true rfl)) dX5_works_91 ⟨Nat.le_of_ble_eq_true rfl, Nat.le_of_ble_eq_true rfl⟩) hS hD hAA (fun rr uu H locs hw hP hD hS => ?_)
            obtain rfl : r11 = rr := (congrArg Prod.fst hw).symm
            obtain rfl : u11 = uu := (congrArg Prod.snd hw).symm
            refine lv_aload_n hx hb dX5_works_94 rfl (lv_at hl 1 rfl) ?_
            refine lv_iload_n hx hb dX5_works_95 rfl (lv_at hl 4 rfl) ?_
            refine lv_iload hx hb dX5_works_96 (lv_at hl 5 rfl) ?_
            refine lv_iadd hx hb dX5_works_98 ?_
            refine lv_iconst (v := 1) hx hb dX5_works_99 (by decide) ?_
            refine lv_isub hx hb dX5_works_100 ?_
            obtain ⟨r12, u12, e12, hF⟩ := bnd_s hF
            refine tw_calli (va_runV (As := [.int ((x3 + x4) - 1)]) (rest := [.int r11, .ref m0]) ⟨hx, hb, hml, hown, hts⟩ (mt_normOf l dC dI cI cZ m0 ad H.size u11 n  ((x3 + x4) - 1) _ e12) (cwV 1 hts (lw_V q2268 q2270 qs73 q125 q2271) rfl rfl rfl (by decide +kernel) ⟨Nat.le_of_ble_eq_true rfl, Nat.le_of_ble_eq_true rfl⟩) (tw_preV hK hP hD _) rfl rfl hl.1 rfl (lv_room (Nat.le_of_ble_eq_true rfl)) dX5_works_101 ⟨Nat.le_of_ble_eq_true rfl, Nat.le_of_ble_eq_true rfl⟩) hS hD hAA (fun rr uu H locs hw hP hD hS => ?_)
            obtain rfl : r12 = rr := (congrArg Prod.fst hw).symm
            obtain rfl : u12 = uu := (congrArg Prod.snd hw).symm
            obtain ⟨r13, u13, e13, hF⟩ := bnd_s hF
            refine tw_calli (va_runV (As := [.int r11, .int r12]) (rest := []) ⟨hx, hb, hml, hown, hts⟩ (mt_quotient l dC dI cI cZ m0 ad H.size u12 n  r11 r12 _ e13) (cwV 2 hts (lw_V q2276 q2278 qs75 q125 q2279) rfl rfl rfl (by decide +kernel) ⟨Nat.le_of_ble_eq_true rfl, Nat.le_of_ble_eq_true rfl⟩) (tw_preV hK hP hD _) rfl rfl hl.1 rfl (lv_room (Nat.le_of_ble_eq_true rfl)) dX5_works_104 ⟨Nat.le_of_ble_eq_true rfl, Nat.le_of_ble_eq_true rfl⟩) hS hD hAA (fun rr uu H locs hw hP hD hS => ?_)
            obtain rfl : r13 = rr := (congrArg Prod.fst hw).symm
            obtain rfl : u13 = uu := (congrArg Prod.snd hw).symm
            refine lv_istore (lv' := [(6, .int r13), (5, .int r9), (0, .ref m0), (1, .int x1), (2, .int x2), (3, .int x3), (4, .int x4)]) hx hb dX5_works_107 hl (by decide) rfl (fun ls hl => ?_)
            refine lv_iconst (v := 0) hx hb dX5_works_109 (by decide) ?_
            refine lv_istore (lv' := [(7, .int 0), (6, .int r13), (5, .int r9), (0, .ref m0), (1, .int x1), (2, .int x2), (3, .int x3), (4, .int x4)]) hx hb dX5_works_110 hl (by decide) rfl (fun ls hl => ?_)
            exact lp3 u13 x1 x2 x3 x4 r9 r13 0 hF _ _ hP hD hS ls (lv_sub hl [3, 4, 5, 6, 7, 2, 1, 0] rfl)
          · replace hF := it_t c10 hF
            refine lv_iconst (v := 0) hx hb dX5_works_81 (by decide) ?_
            refine lv_goto (tgt := 107) hx hb dX5_works_82 (by decide) ?_
            refine lv_istore (lv' := [(6, .int 0), (5, .int r9), (0, .ref m0), (1, .int x1), (2, .int x2), (3, .int x3), (4, .int x4)]) hx hb dX5_works_107 hl (by decide) rfl (fun ls hl => ?_)
            refine lv_iconst (v := 0) hx hb dX5_works_109 (by decide) ?_
            refine lv_istore (lv' := [(7, .int 0), (6, .int 0), (5, .int r9), (0, .ref m0), (1, .int x1), (2, .int x2), (3, .int x3), (4, .int x4)]) hx hb dX5_works_110 hl (by decide) rfl (fun ls hl => ?_)
            exact lp3 u9 x1 x2 x3 x4 r9 0 0 hF _ _ hP hD hS ls (lv_sub hl [3, 4, 5, 6, 7, 2, 1, 0] rfl)
      · intro σ x1 x2 x3 x4 x5 x6 x7 hF H locs hP hD hS ls hl
        replace hF : F_works_3 (F_works_r n) n σ x1 x2 x3 x4 x5 x6 x7 = some out := hF
        unfold F_works_3 at hF
        refine lv_iload hx hb dX5_works_112 (lv_at hl 7 rfl) ?_
        refine lv_bipush (v := 9) hx hb dX5_works_114 (by decide) ?_
        refine lv_icmp_ge (tgt := 153) hx hb dX5_works_116 (by decide) (fun c14 => ?_) (fun c14 => ?_)
        · replace hF := it_t c14 hF
          refine lv_iconst (v := 0) hx hb dX5_works_153 (by decide) ?_
          refine lv_istore (lv' := [(7, .int 0), (0, .ref m0), (1, .int x1), (2, .int x2), (3, .int x3), (4, .int x4), (5, .int x5), (6, .int x6)]) hx hb dX5_works_154 hl (by decide) rfl (fun ls hl => ?_)
          exact lp4 σ x1 x2 x3 x4 x5 x6 0 hF _ _ hP hD hS ls (lv_sub hl [1, 2, 3, 4, 5, 6, 7, 0] rfl)
        · replace hF := it_f c14 hF
          refine lv_aload_n hx hb dX5_works_119 rfl (lv_at hl 0 rfl) ?_
          refine va_get (D := (dC, dI)) (ci := 0) (v := .ref (ad 21)) (C := RX5) (T := TX5) (N := 28) hx hb hts in_X5 hown hK hP 0 tw_g rfl 21 (by decide) (hts _ q2007) (fun _ h9 => h9) rfl dX5_works_120 ?_
          refine lv_iload hx hb dX5_works_123 (lv_at hl 7 rfl) ?_
          refine lv_aload_n hx hb dX5_works_125 rfl (lv_at hl 0 rfl) ?_
          refine va_get (D := (dC, dI)) (ci := 0) (v := .ref (ad 22)) (C := RX5) (T := TX5) (N := 28) hx hb hts in_X5 hown hK hP 0 tw_g rfl 22 (by decide) (hts _ q2008) (fun _ h9 => h9) rfl dX5_works_126 ?_
          refine lv_iload hx hb dX5_works_129 (lv_at hl 7 rfl) ?_
          obtain ⟨g15, hF⟩ := gd_s hF
          refine va_iald hx hb hK hP 11 0 tw_e22 rfl (inB_in g15) dX5_works_131 ?_
          obtain ⟨g16, hF⟩ := gd_s hF
          refine va_iast hx hb hK hP hD hS 10 0 tw_e21 rfl (x := ((σ).2 22 (x7).toNatClampNeg)) (inB_in g16) dX5_works_132 (fun H locs hP hD hS => ?_)
          rw [tw_s21] at hP hD
          refine lv_aload_n hx hb dX5_works_133 rfl (lv_at hl 0 rfl) ?_
          refine va_get (D := (dC, dI)) (ci := 0) (v := .ref (ad 22)) (C := RX5) (T := TX5) (N := 28) hx hb hts in_X5 hown hK hP 0 tw_g rfl 22 (by decide) (hts _ q2008) (fun _ h9 => h9) rfl dX5_works_134 ?_
          refine lv_iload hx hb dX5_works_137 (lv_at hl 7 rfl) ?_
          refine lv_aload_n hx hb dX5_works_139 rfl (lv_at hl 0 rfl) ?_
          refine va_get (D := (dC, dI)) (ci := 0) (v := .ref (ad 23)) (C := RX5) (T := TX5) (N := 28) hx hb hts in_X5 hown hK hP 0 tw_g rfl 23 (by decide) (hts _ q2009) (fun _ h9 => h9) rfl dX5_works_140 ?_
          refine lv_iload hx hb dX5_works_143 (lv_at hl 7 rfl) ?_
          obtain ⟨g17, hF⟩ := gd_s hF
          refine va_iald hx hb hK hP 12 0 tw_e23 rfl (inB_in g17) dX5_works_145 ?_
          obtain ⟨g18, hF⟩ := gd_s hF
          refine va_iast hx hb hK hP hD hS 11 0 tw_e22 rfl (x := (((tw_sa σ 21 (x7).toNatClampNeg ((σ).2 22 (x7).toNatClampNeg))).2 23 (x7).toNatClampNeg)) (inB_in g18) dX5_works_146 (fun H locs hP hD hS => ?_)
          rw [tw_s22] at hP hD
          refine lv_iinc (v := (x7 + 1)) (lv' := [(7, .int (x7 + 1)), (0, .ref m0), (1, .int x1), (2, .int x2), (3, .int x3), (4, .int x4), (5, .int x5), (6, .int x6)]) hx hb dX5_works_147 hl (k := 7) rfl rfl (by decide) rfl (fun ls hl => ?_)
          refine lv_goto (tgt := 112) hx hb dX5_works_150 (by decide) ?_
          exact lp3 (tw_sa (tw_sa σ 21 (x7).toNatClampNeg ((σ).2 22 (x7).toNatClampNeg)) 22 (x7).toNatClampNeg (((tw_sa σ 21 (x7).toNatClampNeg ((σ).2 22 (x7).toNatClampNeg))).2 23 (x7).toNatClampNeg)) x1 x2 x3 x4 x5 x6 (x7 + 1) hF _ _ hP hD hS ls (lv_sub hl [1, 2, 3, 4, 5, 6, 7, 0] rfl)
      · intro σ x1 x2 x3 x4 x5 x6 x7 hF H locs hP hD hS ls hl
        replace hF : F_works_4 (F_works_r n) n σ x1 x2 x3 x4 x5 x6 x7 = some out := hF
        unfold F_works_4 at hF
        refine lv_iload hx hb dX5_works_156 (lv_at hl 7 rfl) ?_
        refine lv_bipush (v := 9) hx hb dX5_works_158 (by decide) ?_
        refine lv_icmp_ge (tgt := 220) hx hb dX5_works_160 (by decide) (fun c19 => ?_) (fun c19 => ?_)
        · replace hF := it_t c19 hF
          refine lv_iinc (v := (x4 + 1)) (lv' := [(4, .int (x4 + 1)), (0, .ref m0), (1, .int x1), (2, .int x2), (3, .int x3), (5, .int x5), (6, .int x6), (7, .int x7)]) hx hb dX5_works_220 hl (k := 4) rfl rfl (by decide) rfl (fun ls hl => ?_)
          refine lv_goto (tgt := 56) hx hb dX5_works_223 (by decide) ?_
          exact lp2 σ x1 x2 x3 (x4 + 1) x5 x6 x7 hF _ _ hP hD hS ls (lv_sub hl [1, 2, 3, 4, 0] rfl)
        · replace hF := it_f c19 hF
          refine lv_aload_n hx hb dX5_works_163 rfl (lv_at hl 0 rfl) ?_
          refine va_get (D := (dC, dI)) (ci := 0) (v := .ref (ad 23)) (C := RX5) (T := TX5) (N := 28) hx hb hts in_X5 hown hK hP 0 tw_g rfl 23 (by decide) (hts _ q2009) (fun _ h9 => h9) rfl dX5_works_164 ?_
          refine lv_iload hx hb dX5_works_167 (lv_at hl 7 rfl) ?_
          refine lv_aload_n hx hb dX5_works_169 rfl (lv_at hl 0 rfl) ?_
          refine lv_iload hx hb dX5_works_170 (lv_at hl 7 rfl) ?_
          refine lv_if_ne (tgt := 179) hx hb dX5_works_172 (by decide) (fun c20 => ?_) (fun c20 => ?_)
          · replace hF := it_f c20 hF
            refine lv_aload_n hx hb dX5_works_179 rfl (lv_at hl 0 rfl) ?_
            refine va_get (D := (dC, dI)) (ci := 0) (v := .ref (ad 22)) (C := RX5) (T := TX5) (N := 28) hx hb hts in_X5 hown hK hP 0 tw_g rfl 22 (by decide) (hts _ q2008) (fun _ h9 => h9) rfl dX5_works_180 ?_
            refine lv_iload hx hb dX5_works_183 (lv_at hl 7 rfl) ?_
            refine lv_iconst (v := 1) hx hb dX5_works_185 (by decide) ?_
            refine lv_isub hx hb dX5_works_186 ?_
            obtain ⟨g21, hF⟩ := gd_s hF
            refine va_iald hx hb hK hP 11 0 tw_e22 rfl (inB_in g21) dX5_works_187 ?_
            refine lv_iload hx hb dX5_works_188 (lv_at hl 5 rfl) ?_
            refine lv_aload_n hx hb dX5_works_190 rfl (lv_at hl 0 rfl) ?_
            refine va_get (D := (dC, dI)) (ci := 0) (v := .ref (ad 22)) (C := RX5) (T := TX5) (N := 28) hx hb hts in_X5 hown hK hP 0 tw_g rfl 22 (by decide) (hts _ q2008) (fun _ h9 => h9) rfl dX5_works_191 ?_
            refine lv_iload hx hb dX5_works_194 (lv_at hl 7 rfl) ?_
            obtain ⟨g22, hF⟩ := gd_s hF
            refine va_iald hx hb hK hP 11 0 tw_e22 rfl (inB_in g22) dX5_works_196 ?_
            refine lv_imul hx hb dX5_works_197 ?_
            refine lv_isub hx hb dX5_works_198 ?_
            refine lv_iload hx hb dX5_works_199 (lv_at hl 6 rfl) ?_
            refine lv_aload_n hx hb dX5_works_201 rfl (lv_at hl 0 rfl) ?_
            refine va_get (D := (dC, dI)) (ci := 0) (v := .ref (ad 21)) (C := RX5) (T := TX5) (N := 28) hx hb hts in_X5 hown hK hP 0 tw_g rfl 21 (by decide) (hts _ q2007) (fun _ h9 => h9) rfl dX5_works_202 ?_
            refine lv_iload hx hb dX5_works_205 (lv_at hl 7 rfl) ?_
            obtain ⟨g23, hF⟩ := gd_s hF
            refine va_iald hx hb hK hP 10 0 tw_e21 rfl (inB_in g23) dX5_works_207 ?_
            refine lv_imul hx hb dX5_works_208 ?_
            refine lv_isub hx hb dX5_works_209 ?_
            obtain ⟨r24, u24, e24, hF⟩ := bnd_s hF
            refine tw_calli (va_runV (As := [.int ((((σ).2 22 ((x7 - 1)).toNatClampNeg) - (x5 * ((σ).2 22 (x7).toNatClampNeg))) - (x6 * ((σ).2 21 (x7).toNatClampNeg)))]) (rest := [.int x7, .ref (ad 23)]) ⟨hx, hb, hml, hown, hts⟩ (mt_mod l dC dI cI cZ m0 ad H.size σ  ((((σ).2 22 ((x7 - 1)).toNatClampNeg) - (x5 * ((σ).2 22 (x7).toNatClampNeg))) - (x6 * ((σ).2 21 (x7).toNatClampNeg))) _ e24) (cwV 1 hts (lw_V q2253 q2255 qs70 q125 q2256) rfl rfl rfl (by decide +kernel) ⟨Nat.le_of_ble_eq_true rfl, Nat.le_of_ble_eq_true rfl⟩) (tw_preV hK hP hD _) rfl rfl hl.1 rfl (lv_room (Nat.le_of_ble_eq_true rfl)) dX5_works_210 ⟨Nat.le_of_ble_eq_true rfl, Nat.le_of_ble_eq_true rfl⟩) hS hD hAA (fun rr uu H locs hw hP hD hS => ?_)
            obtain rfl : r24 = rr := (congrArg Prod.fst hw).symm
            obtain rfl : u24 = uu := (congrArg Prod.snd hw).symm
            obtain ⟨g25, hF⟩ := gd_s hF
            refine va_iast hx hb hK hP hD hS 12 0 tw_e23 rfl (x := r24) (inB_in g25) dX5_works_213 (fun H locs hP hD hS => ?_)
            rw [tw_s23] at hP hD
            refine lv_iinc (v := (x7 + 1)) (lv' := [(7, .int (x7 + 1)), (0, .ref m0), (1, .int x1), (2, .int x2), (3, .int x3), (4, .int x4), (5, .int x5), (6, .int x6)]) hx hb dX5_works_214 hl (k := 7) rfl rfl (by decide) rfl (fun ls hl => ?_)
            refine lv_goto (tgt := 156) hx hb dX5_works_217 (by decide) ?_
            exact lp4 (tw_sa u24 23 (x7).toNatClampNeg r24) x1 x2 x3 x4 x5 x6 (x7 + 1) hF _ _ hP hD hS ls (lv_sub hl [1, 2, 3, 4, 5, 6, 7, 0] rfl)
          · replace hF := it_t c20 hF
            refine lv_iconst (v := 0) hx hb dX5_works_175 (by decide) ?_
            refine lv_goto (tgt := 188) hx hb dX5_works_176 (by decide) ?_
            refine lv_iload hx hb dX5_works_188 (lv_at hl 5 rfl) ?_
            refine lv_aload_n hx hb dX5_works_190 rfl (lv_at hl 0 rfl) ?_
            refine va_get (D := (dC, dI)) (ci := 0) (v := .ref (ad 22)) (C := RX5) (T := TX5) (N := 28) hx hb hts in_X5 hown hK hP 0 tw_g rfl 22 (by decide) (hts _ q2008) (fun _ h9 => h9) rfl dX5_works_191 ?_
            refine lv_iload hx hb dX5_works_194 (lv_at hl 7 rfl) ?_
            obtain ⟨g26, hF⟩ := gd_s hF
            refine va_iald hx hb hK hP 11 0 tw_e22 rfl (inB_in g26) dX5_works_196 ?_
            refine lv_imul hx hb dX5_works_197 ?_
            refine lv_isub hx hb dX5_works_198 ?_
            refine lv_iload hx hb dX5_works_199 (lv_at hl 6 rfl) ?_
            refine lv_aload_n hx hb dX5_works_201 rfl (lv_at hl 0 rfl) ?_
            refine va_get (D := (dC, dI)) (ci := 0) (v := .ref (ad 21)) (C := RX5) (T := TX5) (N := 28) hx hb hts in_X5 hown hK hP 0 tw_g rfl 21 (by decide) (hts _ q2007) (fun _ h9 => h9) rfl dX5_works_202 ?_
            refine lv_iload hx hb dX5_works_205 (lv_at hl 7 rfl) ?_
            obtain ⟨g27, hF⟩ := gd_s hF
            refine va_iald hx hb hK hP 10 0 tw_e21 rfl (inB_in g27) dX5_works_207 ?_
            refine lv_imul hx hb dX5_works_208 ?_
            refine lv_isub hx hb dX5_works_209 ?_
            obtain ⟨r28, u28, e28, hF⟩ := bnd_s hF
            refine tw_calli (va_runV (As := [.int ((0 - (x5 * ((σ).2 22 (x7).toNatClampNeg))) - (x6 * ((σ).2 21 (x7).toNatClampNeg)))]) (rest := [.int x7, .ref (ad 23)]) ⟨hx, hb, hml, hown, hts⟩ (mt_mod l dC dI cI cZ m0 ad H.size σ  ((0 - (x5 * ((σ).2 22 (x7).toNatClampNeg))) - (x6 * ((σ).2 21 (x7).toNatClampNeg))) _ e28) (cwV 1 hts (lw_V q2253 q2255 qs70 q125 q2256) rfl rfl rfl (by decide +kernel) ⟨Nat.le_of_ble_eq_true rfl, Nat.le_of_ble_eq_true rfl⟩) (tw_preV hK hP hD _) rfl rfl hl.1 rfl (lv_room (Nat.le_of_ble_eq_true rfl)) dX5_works_210 ⟨Nat.le_of_ble_eq_true rfl, Nat.le_of_ble_eq_true rfl⟩) hS hD hAA (fun rr uu H locs hw hP hD hS => ?_)
            obtain rfl : r28 = rr := (congrArg Prod.fst hw).symm
            obtain rfl : u28 = uu := (congrArg Prod.snd hw).symm
            obtain ⟨g29, hF⟩ := gd_s hF
            refine va_iast hx hb hK hP hD hS 12 0 tw_e23 rfl (x := r28) (inB_in g29) dX5_works_213 (fun H locs hP hD hS => ?_)
            rw [tw_s23] at hP hD
            refine lv_iinc (v := (x7 + 1)) (lv' := [(7, .int (x7 + 1)), (0, .ref m0), (1, .int x1), (2, .int x2), (3, .int x3), (4, .int x4), (5, .int x5), (6, .int x6)]) hx hb dX5_works_214 hl (k := 7) rfl rfl (by decide) rfl (fun ls hl => ?_)
            refine lv_goto (tgt := 156) hx hb dX5_works_217 (by decide) ?_
            exact lp4 (tw_sa u28 23 (x7).toNatClampNeg r28) x1 x2 x3 x4 x5 x6 (x7 + 1) hF _ _ hP hD hS ls (lv_sub hl [1, 2, 3, 4, 5, 6, 7, 0] rfl)
  obtain ⟨lp1, lp2, lp3, lp4⟩ := loop n
  unfold F_works F_works_0 at hF
  refine lv_aload_n hx hb dX5_works_0 rfl (lv_at hl 0 rfl) ?_
  refine lv_iload_n hx hb dX5_works_1 rfl (lv_at hl 1 rfl) ?_
  obtain ⟨r1, u1, e1, hF⟩ := bnd_s hF
  refine tw_calli (va_runV (As := [.int p1]) (rest := []) ⟨hx, hb, hml, hown, hts⟩ (mt_directionsOf l dC dI cI cZ m0 ad s.heap.size σ n  p1 _ e1) (cwV 1 hts (lw_V q2229 q2231 qs64 q125 q2232) rfl rfl rfl (by decide +kernel) ⟨Nat.le_of_ble_eq_true rfl, Nat.le_of_ble_eq_true rfl⟩) (tw_preV hK hP hD _) rfl rfl hl.1 rfl (lv_room (Nat.le_of_ble_eq_true rfl)) dX5_works_2 ⟨Nat.le_of_ble_eq_true rfl, Nat.le_of_ble_eq_true rfl⟩) hS hD hAA (fun rr uu H locs hw hP hD hS => ?_)
  obtain rfl : r1 = rr := (congrArg Prod.fst hw).symm
  obtain rfl : u1 = uu := (congrArg Prod.snd hw).symm
  refine lv_istore_n (lv' := [(2, .int r1), (0, .ref m0), (1, .int p1)]) hx hb dX5_works_5 rfl hl (by decide) rfl (fun ls hl => ?_)
  refine lv_aload_n hx hb dX5_works_6 rfl (lv_at hl 1 rfl) ?_
  refine lv_iload_n hx hb dX5_works_7 rfl (lv_at hl 2 rfl) ?_
  obtain ⟨r2, u2, e2, hF⟩ := bnd_s hF
  refine tw_calli (va_runV (As := [.int p1]) (rest := []) ⟨hx, hb, hml, hown, hts⟩ (mt_firstOf l dC dI cI cZ m0 ad H.size u1 n  p1 _ e2) (cwV 1 hts (lw_V q2324 q2326 qs84 q125 q2327) rfl rfl rfl (by decide +kernel) ⟨Nat.le_of_ble_eq_true rfl, Nat.le_of_ble_eq_true rfl⟩) (tw_preV hK hP hD _) rfl rfl hl.1 rfl (lv_room (Nat.le_of_ble_eq_true rfl)) dX5_works_8 ⟨Nat.le_of_ble_eq_true rfl, Nat.le_of_ble_eq_true rfl⟩) hS hD hAA (fun rr uu H locs hw hP hD hS => ?_)
  obtain rfl : r2 = rr := (congrArg Prod.fst hw).symm
  obtain rfl : u2 = uu := (congrArg Prod.snd hw).symm
  refine lv_istore_n (lv' := [(3, .int r2), (2, .int r1), (0, .ref m0), (1, .int p1)]) hx hb dX5_works_11 rfl hl (by decide) rfl (fun ls hl => ?_)
  refine lv_iconst (v := 0) hx hb dX5_works_12 (by decide) ?_
  refine lv_istore (lv' := [(4, .int 0), (3, .int r2), (2, .int r1), (0, .ref m0), (1, .int p1)]) hx hb dX5_works_13 hl (by decide) rfl (fun ls hl => ?_)
  exact lp1 u2 p1 r1 r2 0 0 0 0 hF _ _ hP hD hS ls (lv_sub hl [3, 4, 2, 1, 0] rfl)

def F_valueAt_1 (R : Nat → Tw → Int32 → Int32 → Int32 → Option (Int32 × Tw)) (n : Nat) (σ : Tw) (x1 : Int32) (x2 : Int32) (x3 : Int32) : Option (Int32 × Tw) := if x3 < 0 then some (x2, σ) else gd (inB x3 9) (gd (inB 0 162) (gd (nzB ((σ).2 0 (0 : Int32).toNatClampNeg)) (R 1 σ x1 (((x2 * x1) + ((σ).2 23 (x3).toNatClampNeg)) - ((x2 * x1) + ((σ).2 23 (x3).toNatClampNeg)) / ((σ).2 0 (0 : Int32).toNatClampNeg) * ((σ).2 0 (0 : Int32).toNatClampNeg)) (x3 + (-1)))))
def F_valueAt_r : Nat → Nat → Tw → Int32 → Int32 → Int32 → Option (Int32 × Tw)
  | 0 => fun _ _ _ _ _ => none
  | n + 1 => fun k => match k with  | _ => F_valueAt_1 (F_valueAt_r n) n
def F_valueAt_0 (R : Nat → Tw → Int32 → Int32 → Int32 → Option (Int32 × Tw)) (n : Nat) (σ : Tw) (p1 : Int32) : Option (Int32 × Tw) := R 1 σ p1 0 8
def F_valueAt (n : Nat) (σ : Tw) (p1 : Int32) : Option (Int32 × Tw) := F_valueAt_0 (F_valueAt_r n) n σ p1
set_option maxHeartbeats 4000000 in
set_option maxRecDepth 100000 in
theorem mt_valueAt (l : Launch) (dC : Nat → ClassId) (dI : Nat → Nat → Nat) (cI cZ : ClassId) (m0 : Nat) (ad : Nat → Nat) (sz : Nat) (σ : Tw) (n : Nat)  (p1 : Int32) (out : Int32 × Tw) (hF : F_valueAt n σ p1 = some out) : Met l yX5_valueAt (ws_ yX5_valueAt cX5_valueAt 4 (some .int)) ({ frames := 0, cells := 0, slots := 0, locals := 0 }) (va_Pc [.ref m0, .int p1] (tw_Pre dC dI cI cZ m0 ad sz σ)) (va_Qi (fun r u => (r, u) = out) (tw_B dC dI cI cZ m0 ad) (tw_A m0 ad sz)) 0 0 (tw_A m0 ad sz) := by
  refine Met.ofW (cc := cX5_valueAt) (maxL := 4) (ret := (some .int)) (by decide +kernel) rfl ?_
  intro p e s m args below meth c s₁ B hml hv
  obtain ⟨rfl, hsz, hP, hK, hD0⟩ := hv
  have hx := B.exec
  have hb := B.bytes
  have hr := B.returns
  have hts := atoms_spec (ws := (ws_ yX5_valueAt cX5_valueAt 4 (some .int))) B.pre
  have hts : ∀ w ∈ lw_all, w.before _ s = true := fun w h => hts w (List.mem_cons_of_mem _ h)
  have hown : s.vm.findClass RX5 = some m.cls := findClass_of_methodNamed B.named
  have hlocks := B.notSynchronized
  subst hsz
  have hD := tw_Ds (z := s.heap.size) hD0
  have hAA := fun z (h : s.heap.size ≤ z) => tw_Am (m0 := m0) (ad := ad) h
  generalize hAe : tw_A m0 ad s.heap.size = A at hD hAA ⊢
  have hS : va_S A s.heap s.heap [] := va_S.rf
  have hP : va_P (dC, dI) vwCl (tw_ws m0 ad cI cZ σ) s.heap := hP
  have hl := lv_entry ([.ref m0, .int p1]) (n := 4) (Nat.le_of_ble_eq_true rfl)
  rw [lg_entry_eq]
  generalize (lg_sl ([.ref m0, .int p1]) ++ List.replicate (4 - (lg_sl ([.ref m0, .int p1])).length) Slot.unset).toArray = ls at hl ⊢
  have hl : lv_has ls 4 [(0, .ref m0), (1, .int p1)] := hl
  have loop : ∀ n : Nat, (∀ (σ : Tw) (x1 x2 x3 : Int32), F_valueAt_r n 1 σ x1 x2 x3 = some out → ∀ (H : Heap) (locs : List Loc), va_P (dC, dI) vwCl (tw_ws m0 ad cI cZ σ) H → va_D A (tw_ws m0 ad cI cZ σ) → va_S A s.heap H locs → ∀ ls : Array Slot, lv_has ls 4 [(0, .ref m0), (1, .int x1), (2, .int x2), (3, .int x3)] → W p l e (headSpec (ws_ yX5_valueAt cX5_valueAt 4 (some .int)) ({ frames := 0, cells := 0, slots := 0, locals := 0 })).room s m ([.ref m0, .int p1] : List Value).toArray below meth c H locs 0 0 (MQ below (va_Qi (fun r u => (r, u) = out) (tw_B dC dI cI cZ m0 ad) A) ([.ref m0, .int p1] : List Value).toArray s 0 0 A) (F0 m 5 ls [])) := by
    intro n
    induction n with
    | zero => exact (fun _ _ _ _ h => nomatch h)
    | succ n ih =>
      have lp1 := ih
      intro σ x1 x2 x3 hF H locs hP hD hS ls hl
      replace hF : F_valueAt_1 (F_valueAt_r n) n σ x1 x2 x3 = some out := hF
      unfold F_valueAt_1 at hF
      refine lv_iload_n hx hb dX5_valueAt_5 rfl (lv_at hl 3 rfl) ?_
      refine lv_if_lt (tgt := 33) hx hb dX5_valueAt_6 (by decide) (fun c1 => ?_) (fun c1 => ?_)
      · replace hF := it_t c1 hF
        refine lv_iload_n hx hb dX5_valueAt_33 rfl (lv_at hl 2 rfl) ?_
        exact W.iret (v := x2) hx hb hr (fun t ht hW => ⟨⟨x2, σ, rfl, Option.some.inj hF, by rw [ht]; exact hP, va_K.moved hW.alike hK⟩, hS.F ht⟩) hS.2.2 dX5_valueAt_34
      · replace hF := it_f c1 hF
        refine lv_iload_n hx hb dX5_valueAt_9 rfl (lv_at hl 2 rfl) ?_
        refine lv_iload_n hx hb dX5_valueAt_10 rfl (lv_at hl 1 rfl) ?_
        refine lv_imul hx hb dX5_valueAt_11 ?_
        refine lv_aload_n hx hb dX5_valueAt_12 rfl (lv_at hl 0 rfl) ?_
        refine va_get (D := (dC, dI)) (ci := 0) (v := .ref (ad 23)) (C := RX5) (T := TX5) (N := 28) hx hb hts in_X5 hown hK hP 0 tw_g rfl 23 (by decide) (hts _ q2009) (fun _ h9 => h9) rfl dX5_valueAt_13 ?_
        refine lv_iload_n hx hb dX5_valueAt_16 rfl (lv_at hl 3 rfl) ?_
        obtain ⟨g2, hF⟩ := gd_s hF
        refine va_iald hx hb hK hP 12 0 tw_e23 rfl (inB_in g2) dX5_valueAt_17 ?_
        refine lv_iadd hx hb dX5_valueAt_18 ?_
        refine lv_aload_n hx hb dX5_valueAt_19 rfl (lv_at hl 0 rfl) ?_
        refine va_get (D := (dC, dI)) (ci := 0) (v := .ref (ad 0)) (C := RX5) (T := TX5) (N := 28) hx hb hts in_X5 hown hK hP 0 tw_g rfl 0 (by decide) (hts _ q1986) (fun _ h9 => h9) rfl dX5_valueAt_20 ?_
        refine lv_iconst (v := 0) hx hb dX5_valueAt_23 (by decide) ?_
        obtain ⟨g3, hF⟩ := gd_s hF
        refine va_iald hx hb hK hP 1 0 tw_e0 rfl (inB_in g3) dX5_valueAt_24 ?_
        obtain ⟨g4, hF⟩ := gd_s hF
        refine lv_irem hx hb dX5_valueAt_25 (nz_of g4) ?_
        refine lv_istore_n (lv' := [(2, .int (((x2 * x1) + ((σ).2 23 (x3).toNatClampNeg)) - ((x2 * x1) + ((σ).2 23 (x3).toNatClampNeg)) / ((σ).2 0 (0 : Int32).toNatClampNeg) * ((σ).2 0 (0 : Int32).toNatClampNeg))), (0, .ref m0), (1, .int x1), (3, .int x3)]) hx hb dX5_valueAt_26 rfl hl (by decide) rfl (fun ls hl => ?_)
        refine lv_iinc (v := (x3 + (-1))) (lv' := [(3, .int (x3 + (-1))), (2, .int (((x2 * x1) + ((σ).2 23 (x3).toNatClampNeg)) - ((x2 * x1) + ((σ).2 23 (x3).toNatClampNeg)) / ((σ).2 0 (0 : Int32).toNatClampNeg) * ((σ).2 0 (0 : Int32).toNatClampNeg))), (0, .ref m0), (1, .int x1)]) hx hb dX5_valueAt_27 hl (k := 3) rfl rfl (by decide) rfl (fun ls hl => ?_)
        refine lv_goto (tgt := 5) hx hb dX5_valueAt_30 (by decide) ?_
        exact lp1 σ x1 (((x2 * x1) + ((σ).2 23 (x3).toNatClampNeg)) - ((x2 * x1) + ((σ).2 23 (x3).toNatClampNeg)) / ((σ).2 0 (0 : Int32).toNatClampNeg) * ((σ).2 0 (0 : Int32).toNatClampNeg)) (x3 + (-1)) hF _ _ hP hD hS ls (lv_sub hl [2, 3, 1, 0] rfl)
  have lp1 := loop n
  unfold F_valueAt F_valueAt_0 at hF
  refine lv_iconst (v := 0) hx hb dX5_valueAt_0 (by decide) ?_
  refine lv_istore_n (lv' := [(2, .int 0), (0, .ref m0), (1, .int p1)]) hx hb dX5_valueAt_1 rfl hl (by decide) rfl (fun ls hl => ?_)
  refine lv_bipush (v := 8) hx hb dX5_valueAt_2 (by decide) ?_
  refine lv_istore_n (lv' := [(3, .int 8), (2, .int 0), (0, .ref m0), (1, .int p1)]) hx hb dX5_valueAt_4 rfl hl (by decide) rfl (fun ls hl => ?_)
  exact lp1 σ p1 0 8 hF _ _ hP hD hS ls (lv_sub hl [2, 3, 1, 0] rfl)

def F_rootsOf_1 (R : Nat → Tw → Int32 → Int32 → Int32 → Int32 → Option (Int32 × Tw)) (n : Nat) (σ : Tw) (x1 : Int32) (x2 : Int32) (x3 : Int32) (x4 : Int32) : Option (Int32 × Tw) := gd (inB 0 162) (if ((σ).2 0 (0 : Int32).toNatClampNeg) ≤ x4 then some (x3, σ) else if x2 ≤ 0 then some (x3, σ) else bnd (F_valueAt n σ x4) (fun r5 u5 => if r5 = 0 then R 1 u5 x1 x2 (x3 + 1) (x4 + 1) else R 1 u5 x1 x2 (x3 + 0) (x4 + 1)))
def F_rootsOf_r : Nat → Nat → Tw → Int32 → Int32 → Int32 → Int32 → Option (Int32 × Tw)
  | 0 => fun _ _ _ _ _ _ => none
  | n + 1 => fun k => match k with  | _ => F_rootsOf_1 (F_rootsOf_r n) n
def F_rootsOf_0 (R : Nat → Tw → Int32 → Int32 → Int32 → Int32 → Option (Int32 × Tw)) (n : Nat) (σ : Tw) (p1 : Int32) : Option (Int32 × Tw) := bnd (F_works n σ p1) (fun r1 u1 => R 1 u1 p1 r1 0 0)
def F_rootsOf (n : Nat) (σ : Tw) (p1 : Int32) : Option (Int32 × Tw) := F_rootsOf_0 (F_rootsOf_r n) n σ p1
set_option maxHeartbeats 4000000 in
set_option maxRecDepth 100000 in
theorem mt_rootsOf (l : Launch) (dC : Nat → ClassId) (dI : Nat → Nat → Nat) (cI cZ : ClassId) (m0 : Nat) (ad : Nat → Nat) (sz : Nat) (σ : Tw) (n : Nat)  (p1 : Int32) (out : Int32 × Tw) (hF : F_rootsOf n σ p1 = some out) : Met l yX5_rootsOf (ws_ yX5_rootsOf cX5_rootsOf 5 (some .int)) ({ frames := 7, cells := 0, slots := 0, locals := 161 }) (va_Pc [.ref m0, .int p1] (tw_Pre dC dI cI cZ m0 ad sz σ)) (va_Qi (fun r u => (r, u) = out) (tw_B dC dI cI cZ m0 ad) (tw_A m0 ad sz)) 0 0 (tw_A m0 ad sz) := by
  refine Met.ofW (cc := cX5_rootsOf) (maxL := 5) (ret := (some .int)) (by decide +kernel) rfl ?_
  intro p e s m args below meth c s₁ B hml hv
  obtain ⟨rfl, hsz, hP, hK, hD0⟩ := hv
  have hx := B.exec
  have hb := B.bytes
  have hr := B.returns
  have hts := atoms_spec (ws := (ws_ yX5_rootsOf cX5_rootsOf 5 (some .int))) B.pre
  have hts : ∀ w ∈ lw_all, w.before _ s = true := fun w h => hts w (List.mem_cons_of_mem _ h)
  have hown : s.vm.findClass RX5 = some m.cls := findClass_of_methodNamed B.named
  have hlocks := B.notSynchronized
  subst hsz
  have hD := tw_Ds (z := s.heap.size) hD0
  have hAA := fun z (h : s.heap.size ≤ z) => tw_Am (m0 := m0) (ad := ad) h
  generalize hAe : tw_A m0 ad s.heap.size = A at hD hAA ⊢
  have hS : va_S A s.heap s.heap [] := va_S.rf
  have hP : va_P (dC, dI) vwCl (tw_ws m0 ad cI cZ σ) s.heap := hP
  have hl := lv_entry ([.ref m0, .int p1]) (n := 5) (Nat.le_of_ble_eq_true rfl)
  rw [lg_entry_eq]
  generalize (lg_sl ([.ref m0, .int p1]) ++ List.replicate (5 - (lg_sl ([.ref m0, .int p1])).length) Slot.unset).toArray = ls at hl ⊢
  have hl : lv_has ls 5 [(0, .ref m0), (1, .int p1)] := hl
  have loop : ∀ n : Nat, (∀ (σ : Tw) (x1 x2 x3 x4 : Int32), F_rootsOf_r n 1 σ x1 x2 x3 x4 = some out → ∀ (H : Heap) (locs : List Loc), va_P (dC, dI) vwCl (tw_ws m0 ad cI cZ σ) H → va_D A (tw_ws m0 ad cI cZ σ) → va_S A s.heap H locs → ∀ ls : Array Slot, lv_has ls 5 [(0, .ref m0), (1, .int x1), (2, .int x2), (3, .int x3), (4, .int x4)] → W p l e (headSpec (ws_ yX5_rootsOf cX5_rootsOf 5 (some .int)) ({ frames := 7, cells := 0, slots := 0, locals := 161 })).room s m ([.ref m0, .int p1] : List Value).toArray below meth c H locs 0 0 (MQ below (va_Qi (fun r u => (r, u) = out) (tw_B dC dI cI cZ m0 ad) A) ([.ref m0, .int p1] : List Value).toArray s 0 0 A) (F0 m 11 ls [])) := by
    intro n
    induction n with
    | zero => exact (fun _ _ _ _ _ h => nomatch h)
    | succ n ih =>
      have lp1 := ih
      intro σ x1 x2 x3 x4 hF H locs hP hD hS ls hl
      replace hF : F_rootsOf_1 (F_rootsOf_r n) n σ x1 x2 x3 x4 = some out := hF
      unfold F_rootsOf_1 at hF
      refine lv_iload hx hb dX5_rootsOf_11 (lv_at hl 4 rfl) ?_
      refine lv_aload_n hx hb dX5_rootsOf_13 rfl (lv_at hl 0 rfl) ?_
      refine va_get (D := (dC, dI)) (ci := 0) (v := .ref (ad 0)) (C := RX5) (T := TX5) (N := 28) hx hb hts in_X5 hown hK hP 0 tw_g rfl 0 (by decide) (hts _ q1986) (fun _ h9 => h9) rfl dX5_rootsOf_14 ?_
      refine lv_iconst (v := 0) hx hb dX5_rootsOf_17 (by decide) ?_
      obtain ⟨g2, hF⟩ := gd_s hF
      refine va_iald hx hb hK hP 1 0 tw_e0 rfl (inB_in g2) dX5_rootsOf_18 ?_
      refine lv_icmp_ge (tgt := 49) hx hb dX5_rootsOf_19 (by decide) (fun c3 => ?_) (fun c3 => ?_)
      · replace hF := it_t c3 hF
        refine lv_iload_n hx hb dX5_rootsOf_49 rfl (lv_at hl 3 rfl) ?_
        exact W.iret (v := x3) hx hb hr (fun t ht hW => ⟨⟨x3, σ, rfl, Option.some.inj hF, by rw [ht]; exact hP, va_K.moved hW.alike hK⟩, hS.F ht⟩) hS.2.2 dX5_rootsOf_50
      · replace hF := it_f c3 hF
        refine lv_iload_n hx hb dX5_rootsOf_22 rfl (lv_at hl 2 rfl) ?_
        refine lv_if_le (tgt := 49) hx hb dX5_rootsOf_23 (by decide) (fun c4 => ?_) (fun c4 => ?_)
        · replace hF := it_t c4 hF
          refine lv_iload_n hx hb dX5_rootsOf_49 rfl (lv_at hl 3 rfl) ?_
          exact W.iret (v := x3) hx hb hr (fun t ht hW => ⟨⟨x3, σ, rfl, Option.some.inj hF, by rw [ht]; exact hP, va_K.moved hW.alike hK⟩, hS.F ht⟩) hS.2.2 dX5_rootsOf_50
        · replace hF := it_f c4 hF
          refine lv_iload_n hx hb dX5_rootsOf_26 rfl (lv_at hl 3 rfl) ?_
          refine lv_aload_n hx hb dX5_rootsOf_27 rfl (lv_at hl 0 rfl) ?_
          refine lv_iload hx hb dX5_rootsOf_28 (lv_at hl 4 rfl) ?_
          obtain ⟨r5, u5, e5, hF⟩ := bnd_s hF
          refine tw_calli (va_runV (As := [.int x4]) (rest := [.int x3]) ⟨hx, hb, hml, hown, hts⟩ (mt_valueAt l dC dI cI cZ m0 ad H.size σ n  x4 _ e5) (cwV 1 hts (lw_V q2340 q2342 qs88 q125 q2343) rfl rfl rfl (by decide +kernel) ⟨Nat.le_of_ble_eq_true rfl, Nat.le_of_ble_eq_true rfl⟩) (tw_preV hK hP hD _) rfl rfl hl.1 rfl (lv_room (Nat.le_of_ble_eq_true rfl)) dX5_rootsOf_30 ⟨Nat.le_of_ble_eq_true rfl, Nat.le_of_ble_eq_true rfl⟩) hS hD hAA (fun rr uu H locs hw hP hD hS => ?_)
          obtain rfl : r5 = rr := (congrArg Prod.fst hw).symm
          obtain rfl : u5 = uu := (congrArg Prod.snd hw).symm
          refine lv_if_ne (tgt := 40) hx hb dX5_rootsOf_33 (by decide) (fun c6 => ?_) (fun c6 => ?_)
          · replace hF := it_f c6 hF
            refine lv_iconst (v := 0) hx hb dX5_rootsOf_40 (by decide) ?_
            refine lv_iadd hx hb dX5_rootsOf_41 ?_
            refine lv_istore_n (lv' := [(3, .int (x3 + 0)), (0, .ref m0), (1, .int x1), (2, .int x2), (4, .int x4)]) hx hb dX5_rootsOf_42 rfl hl (by decide) rfl (fun ls hl => ?_)
            refine lv_iinc (v := (x4 + 1)) (lv' := [(4, .int (x4 + 1)), (3, .int (x3 + 0)), (0, .ref m0), (1, .int x1), (2, .int x2)]) hx hb dX5_rootsOf_43 hl (k := 4) rfl rfl (by decide) rfl (fun ls hl => ?_)
            refine lv_goto (tgt := 11) hx hb dX5_rootsOf_46 (by decide) ?_
            exact lp1 u5 x1 x2 (x3 + 0) (x4 + 1) hF _ _ hP hD hS ls (lv_sub hl [2, 3, 4, 1, 0] rfl)
          · replace hF := it_t c6 hF
            refine lv_iconst (v := 1) hx hb dX5_rootsOf_36 (by decide) ?_
            refine lv_goto (tgt := 41) hx hb dX5_rootsOf_37 (by decide) ?_
            refine lv_iadd hx hb dX5_rootsOf_41 ?_
            refine lv_istore_n (lv' := [(3, .int (x3 + 1)), (0, .ref m0), (1, .int x1), (2, .int x2), (4, .int x4)]) hx hb dX5_rootsOf_42 rfl hl (by decide) rfl (fun ls hl => ?_)
            refine lv_iinc (v := (x4 + 1)) (lv' := [(4, .int (x4 + 1)), (3, .int (x3 + 1)), (0, .ref m0), (1, .int x1), (2, .int x2)]) hx hb dX5_rootsOf_43 hl (k := 4) rfl rfl (by decide) rfl (fun ls hl => ?_)
            refine lv_goto (tgt := 11) hx hb dX5_rootsOf_46 (by decide) ?_
            exact lp1 u5 x1 x2 (x3 + 1) (x4 + 1) hF _ _ hP hD hS ls (lv_sub hl [2, 3, 4, 1, 0] rfl)
  have lp1 := loop n
  unfold F_rootsOf F_rootsOf_0 at hF
  refine lv_aload_n hx hb dX5_rootsOf_0 rfl (lv_at hl 0 rfl) ?_
  refine lv_iload_n hx hb dX5_rootsOf_1 rfl (lv_at hl 1 rfl) ?_
  obtain ⟨r1, u1, e1, hF⟩ := bnd_s hF
  refine tw_calli (va_runV (As := [.int p1]) (rest := []) ⟨hx, hb, hml, hown, hts⟩ (mt_works l dC dI cI cZ m0 ad s.heap.size σ n  p1 _ e1) (cwV 1 hts (lw_V q2332 q2334 qs86 q125 q2335) rfl rfl rfl (by decide +kernel) ⟨Nat.le_of_ble_eq_true rfl, Nat.le_of_ble_eq_true rfl⟩) (tw_preV hK hP hD _) rfl rfl hl.1 rfl (lv_room (Nat.le_of_ble_eq_true rfl)) dX5_rootsOf_2 ⟨Nat.le_of_ble_eq_true rfl, Nat.le_of_ble_eq_true rfl⟩) hS hD hAA (fun rr uu H locs hw hP hD hS => ?_)
  obtain rfl : r1 = rr := (congrArg Prod.fst hw).symm
  obtain rfl : u1 = uu := (congrArg Prod.snd hw).symm
  refine lv_istore_n (lv' := [(2, .int r1), (0, .ref m0), (1, .int p1)]) hx hb dX5_rootsOf_5 rfl hl (by decide) rfl (fun ls hl => ?_)
  refine lv_iconst (v := 0) hx hb dX5_rootsOf_6 (by decide) ?_
  refine lv_istore_n (lv' := [(3, .int 0), (2, .int r1), (0, .ref m0), (1, .int p1)]) hx hb dX5_rootsOf_7 rfl hl (by decide) rfl (fun ls hl => ?_)
  refine lv_iconst (v := 0) hx hb dX5_rootsOf_8 (by decide) ?_
  refine lv_istore (lv' := [(4, .int 0), (3, .int 0), (2, .int r1), (0, .ref m0), (1, .int p1)]) hx hb dX5_rootsOf_9 hl (by decide) rfl (fun ls hl => ?_)
  exact lp1 u1 p1 r1 0 0 hF _ _ hP hD hS ls (lv_sub hl [3, 4, 2, 1, 0] rfl)

def F_isChain (σ : Tw) (p1 : Int32) : Option (Int32 × Tw) := gd (inB 6 162) (bnd (F_isIn σ p1 0 (((σ).2 0 (6 : Int32).toNatClampNeg) - 1)) (fun r2 u2 => gd (zbB r2) (some (r2, u2))))
set_option maxHeartbeats 4000000 in
set_option maxRecDepth 100000 in
theorem mt_isChain (l : Launch) (dC : Nat → ClassId) (dI : Nat → Nat → Nat) (cI cZ : ClassId) (m0 : Nat) (ad : Nat → Nat) (sz : Nat) (σ : Tw)  (p1 : Int32) (out : Int32 × Tw) (hF : F_isChain σ p1 = some out) : Met l yX5_isChain (ws_ yX5_isChain cX5_isChain 2 (some .boolean)) ({ frames := 1, cells := 0, slots := 0, locals := 22 }) (va_Pc [.ref m0, .int p1] (tw_Pre dC dI cI cZ m0 ad sz σ)) (va_Qi (fun r u => (r, u) = out) (tw_B dC dI cI cZ m0 ad) (tw_A m0 ad sz)) 0 0 (tw_A m0 ad sz) := by
  refine Met.ofW (cc := cX5_isChain) (maxL := 2) (ret := (some .boolean)) (by decide +kernel) rfl ?_
  intro p e s m args below meth c s₁ B hml hv
  obtain ⟨rfl, hsz, hP, hK, hD0⟩ := hv
  have hx := B.exec
  have hb := B.bytes
  have hr := B.returns
  have hts := atoms_spec (ws := (ws_ yX5_isChain cX5_isChain 2 (some .boolean))) B.pre
  have hts : ∀ w ∈ lw_all, w.before _ s = true := fun w h => hts w (List.mem_cons_of_mem _ h)
  have hown : s.vm.findClass RX5 = some m.cls := findClass_of_methodNamed B.named
  have hlocks := B.notSynchronized
  subst hsz
  have hD := tw_Ds (z := s.heap.size) hD0
  have hAA := fun z (h : s.heap.size ≤ z) => tw_Am (m0 := m0) (ad := ad) h
  generalize hAe : tw_A m0 ad s.heap.size = A at hD hAA ⊢
  have hS : va_S A s.heap s.heap [] := va_S.rf
  have hP : va_P (dC, dI) vwCl (tw_ws m0 ad cI cZ σ) s.heap := hP
  have hl := lv_entry ([.ref m0, .int p1]) (n := 2) (Nat.le_of_ble_eq_true rfl)
  rw [lg_entry_eq]
  generalize (lg_sl ([.ref m0, .int p1]) ++ List.replicate (2 - (lg_sl ([.ref m0, .int p1])).length) Slot.unset).toArray = ls at hl ⊢
  have hl : lv_has ls 2 [(0, .ref m0), (1, .int p1)] := hl
  unfold F_isChain at hF
  refine lv_iload_n hx hb dX5_isChain_0 rfl (lv_at hl 1 rfl) ?_
  refine lv_iconst (v := 0) hx hb dX5_isChain_1 (by decide) ?_
  refine lv_aload_n hx hb dX5_isChain_2 rfl (lv_at hl 0 rfl) ?_
  refine va_get (D := (dC, dI)) (ci := 0) (v := .ref (ad 0)) (C := RX5) (T := TX5) (N := 28) hx hb hts in_X5 hown hK hP 0 tw_g rfl 0 (by decide) (hts _ q1986) (fun _ h9 => h9) rfl dX5_isChain_3 ?_
  refine lv_bipush (v := 6) hx hb dX5_isChain_6 (by decide) ?_
  obtain ⟨g1, hF⟩ := gd_s hF
  refine va_iald hx hb hK hP 1 0 tw_e0 rfl (inB_in g1) dX5_isChain_8 ?_
  refine lv_iconst (v := 1) hx hb dX5_isChain_9 (by decide) ?_
  refine lv_isub hx hb dX5_isChain_10 ?_
  obtain ⟨r2, u2, e2, hF⟩ := bnd_s hF
  refine tw_calli (va_runS (As := [.int p1, .int 0, .int (((σ).2 0 (6 : Int32).toNatClampNeg) - 1)]) (rest := []) ⟨hx, hb, hml, hown, hts⟩ (mt_isIn l dC dI cI cZ m0 ad s.heap.size σ  p1 0 (((σ).2 0 (6 : Int32).toNatClampNeg) - 1) _ e2) (va_cwS 3 hts (lw_S q2084 q2085 q125 q2086) rfl rfl rfl (by decide +kernel) ⟨Nat.le_of_ble_eq_true rfl, Nat.le_of_ble_eq_true rfl⟩) (tw_preS hK hP hD _) rfl rfl hl.1 rfl (lv_room (Nat.le_of_ble_eq_true rfl)) dX5_isChain_11 ⟨Nat.le_of_ble_eq_true rfl, Nat.le_of_ble_eq_true rfl⟩) hS hD hAA (fun rr uu H locs hw hP hD hS => ?_)
  obtain rfl : r2 = rr := (congrArg Prod.fst hw).symm
  obtain rfl : u2 = uu := (congrArg Prod.snd hw).symm
  obtain ⟨g3, hF⟩ := gd_s hF
  exact W.zret (v := r2) hx hb hr (zb_of g3) (fun t ht hW => ⟨⟨r2, u2, rfl, Option.some.inj hF, by rw [ht]; exact hP, va_K.moved hW.alike hK⟩, hS.F ht⟩) hS.2.2 dX5_isChain_14

def F_chain (n : Nat) (σ : Tw) (p1 : Int32) (p2 : Int32) : Option (Int32 × Tw) := bnd (F_isChain σ p1) (fun r1 u1 => if r1 = 0 then if (((tw_sf u1 6 1)).1 6) ≤ 0 then if p2 = 0 then bnd (F_directionsOf n (tw_sf u1 6 1) p1) (fun r28 u28 => some (r28, u28)) else if p2 = 1 then bnd (F_firstOf n (tw_sf u1 6 1) p1) (fun r27 u27 => some (r27, u27)) else if p2 = 2 then gd (inB (89 + p1) 162) (some ((((tw_sf u1 6 1)).2 0 ((89 + p1)).toNatClampNeg), (tw_sf u1 6 1))) else bnd (F_rootsOf n (tw_sf u1 6 1) p1) (fun r25 u25 => some (r25, u25)) else some (0, (tw_sf u1 6 1)) else bnd (F_isIn u1 p2 0 3) (fun r3 u3 => if r3 = 0 then if (((tw_sf u3 6 2)).1 6) ≤ 0 then if p2 = 0 then bnd (F_directionsOf n (tw_sf u3 6 2) p1) (fun r12 u12 => some (r12, u12)) else if p2 = 1 then bnd (F_firstOf n (tw_sf u3 6 2) p1) (fun r11 u11 => some (r11, u11)) else if p2 = 2 then gd (inB (89 + p1) 162) (some ((((tw_sf u3 6 2)).2 0 ((89 + p1)).toNatClampNeg), (tw_sf u3 6 2))) else bnd (F_rootsOf n (tw_sf u3 6 2) p1) (fun r9 u9 => some (r9, u9)) else some (0, (tw_sf u3 6 2)) else if (((tw_sf u3 6 0)).1 6) ≤ 0 then if p2 = 0 then bnd (F_directionsOf n (tw_sf u3 6 0) p1) (fun r20 u20 => some (r20, u20)) else if p2 = 1 then bnd (F_firstOf n (tw_sf u3 6 0) p1) (fun r19 u19 => some (r19, u19)) else if p2 = 2 then gd (inB (89 + p1) 162) (some ((((tw_sf u3 6 0)).2 0 ((89 + p1)).toNatClampNeg), (tw_sf u3 6 0))) else bnd (F_rootsOf n (tw_sf u3 6 0) p1) (fun r17 u17 => some (r17, u17)) else some (0, (tw_sf u3 6 0))))
set_option maxHeartbeats 4000000 in
set_option maxRecDepth 100000 in
theorem mt_chain (l : Launch) (dC : Nat → ClassId) (dI : Nat → Nat → Nat) (cI cZ : ClassId) (m0 : Nat) (ad : Nat → Nat) (sz : Nat) (σ : Tw) (n : Nat)  (p1 : Int32) (p2 : Int32) (out : Int32 × Tw) (hF : F_chain n σ p1 p2 = some out) : Met l yX5_chain (ws_ yX5_chain cX5_chain 3 (some .int)) ({ frames := 8, cells := 0, slots := 0, locals := 185 }) (va_Pc [.ref m0, .int p1, .int p2] (tw_Pre dC dI cI cZ m0 ad sz σ)) (va_Qi (fun r u => (r, u) = out) (tw_B dC dI cI cZ m0 ad) (tw_A m0 ad sz)) 0 0 (tw_A m0 ad sz) := by
  refine Met.ofW (cc := cX5_chain) (maxL := 3) (ret := (some .int)) (by decide +kernel) rfl ?_
  intro p e s m args below meth c s₁ B hml hv
  obtain ⟨rfl, hsz, hP, hK, hD0⟩ := hv
  have hx := B.exec
  have hb := B.bytes
  have hr := B.returns
  have hts := atoms_spec (ws := (ws_ yX5_chain cX5_chain 3 (some .int))) B.pre
  have hts : ∀ w ∈ lw_all, w.before _ s = true := fun w h => hts w (List.mem_cons_of_mem _ h)
  have hown : s.vm.findClass RX5 = some m.cls := findClass_of_methodNamed B.named
  have hlocks := B.notSynchronized
  subst hsz
  have hD := tw_Ds (z := s.heap.size) hD0
  have hAA := fun z (h : s.heap.size ≤ z) => tw_Am (m0 := m0) (ad := ad) h
  generalize hAe : tw_A m0 ad s.heap.size = A at hD hAA ⊢
  have hS : va_S A s.heap s.heap [] := va_S.rf
  have hP : va_P (dC, dI) vwCl (tw_ws m0 ad cI cZ σ) s.heap := hP
  have hl := lv_entry ([.ref m0, .int p1, .int p2]) (n := 3) (Nat.le_of_ble_eq_true rfl)
  rw [lg_entry_eq]
  generalize (lg_sl ([.ref m0, .int p1, .int p2]) ++ List.replicate (3 - (lg_sl ([.ref m0, .int p1, .int p2])).length) Slot.unset).toArray = ls at hl ⊢
  have hl : lv_has ls 3 [(0, .ref m0), (1, .int p1), (2, .int p2)] := hl
  unfold F_chain at hF
  refine lv_aload_n hx hb dX5_chain_0 rfl (lv_at hl 0 rfl) ?_
  refine lv_aload_n hx hb dX5_chain_1 rfl (lv_at hl 0 rfl) ?_
  refine lv_iload_n hx hb dX5_chain_2 rfl (lv_at hl 1 rfl) ?_
  obtain ⟨r1, u1, e1, hF⟩ := bnd_s hF
  refine tw_calli (va_runV (As := [.int p1]) (rest := [.ref m0]) ⟨hx, hb, hml, hown, hts⟩ (mt_isChain l dC dI cI cZ m0 ad s.heap.size σ  p1 _ e1) (cwV 1 hts (lw_V q2320 q2322 qs83 q125 q2323) rfl rfl rfl (by decide +kernel) ⟨Nat.le_of_ble_eq_true rfl, Nat.le_of_ble_eq_true rfl⟩) (tw_preV hK hP hD _) rfl rfl hl.1 rfl (lv_room (Nat.le_of_ble_eq_true rfl)) dX5_chain_3 ⟨Nat.le_of_ble_eq_true rfl, Nat.le_of_ble_eq_true rfl⟩) hS hD hAA (fun rr uu H locs hw hP hD hS => ?_)
  obtain rfl : r1 = rr := (congrArg Prod.fst hw).symm
  obtain rfl : u1 = uu := (congrArg Prod.snd hw).symm
  refine lv_if_ne (tgt := 13) hx hb dX5_chain_6 (by decide) (fun c2 => ?_) (fun c2 => ?_)
  · replace hF := it_f c2 hF
    refine lv_iload_n hx hb dX5_chain_13 rfl (lv_at hl 2 rfl) ?_
    refine lv_iconst (v := 0) hx hb dX5_chain_14 (by decide) ?_
    refine lv_iconst (v := 3) hx hb dX5_chain_15 (by decide) ?_
    obtain ⟨r3, u3, e3, hF⟩ := bnd_s hF
    refine tw_calli (va_runS (As := [.int p2, .int 0, .int 3]) (rest := [.ref m0]) ⟨hx, hb, hml, hown, hts⟩ (mt_isIn l dC dI cI cZ m0 ad H.size u1  p2 0 3 _ e3) (va_cwS 3 hts (lw_S q2084 q2085 q125 q2086) rfl rfl rfl (by decide +kernel) ⟨Nat.le_of_ble_eq_true rfl, Nat.le_of_ble_eq_true rfl⟩) (tw_preS hK hP hD _) rfl rfl hl.1 rfl (lv_room (Nat.le_of_ble_eq_true rfl)) dX5_chain_16 ⟨Nat.le_of_ble_eq_true rfl, Nat.le_of_ble_eq_true rfl⟩) hS hD hAA (fun rr uu H locs hw hP hD hS => ?_)
    obtain rfl : r3 = rr := (congrArg Prod.fst hw).symm
    obtain rfl : u3 = uu := (congrArg Prod.snd hw).symm
    refine lv_if_eq (tgt := 26) hx hb dX5_chain_19 (by decide) (fun c4 => ?_) (fun c4 => ?_)
    · replace hF := it_t c4 hF
      refine lv_iconst (v := 2) hx hb dX5_chain_26 (by decide) ?_
      refine va_put (D := (dC, dI)) (ci := 0) (v := .int 2) (ty := .int) (C := RX5) (T := TX5) (N := 28) hx hb hts in_X5 tyX5 tyX5_ok nmX5 hown hK hP hD hS 0 tw_g rfl 6 (by decide) (hts _ q1992) (fun _ h9 => h9) rfl (tyX5_ok 6 (by decide)) rfl rfl (Nat.le_of_ble_eq_true rfl) dX5_chain_27 (fun H locs hP hD hS => ?_)
      rw [tw_p6] at hP hD
      refine lv_aload_n hx hb dX5_chain_30 rfl (lv_at hl 0 rfl) ?_
      refine va_get (D := (dC, dI)) (ci := 0) (v := .int (((tw_sf u3 6 2)).1 6)) (C := RX5) (T := TX5) (N := 28) hx hb hts in_X5 hown hK hP 0 tw_g rfl 6 (by decide) (hts _ q1992) (fun _ h9 => h9) rfl dX5_chain_31 ?_
      refine lv_if_le (tgt := 39) hx hb dX5_chain_34 (by decide) (fun c5 => ?_) (fun c5 => ?_)
      · replace hF := it_t c5 hF
        refine lv_iload_n hx hb dX5_chain_39 rfl (lv_at hl 2 rfl) ?_
        refine lv_if_ne (tgt := 51) hx hb dX5_chain_40 (by decide) (fun c6 => ?_) (fun c6 => ?_)
        · replace hF := it_f c6 hF
          refine lv_iload_n hx hb dX5_chain_51 rfl (lv_at hl 2 rfl) ?_
          refine lv_iconst (v := 1) hx hb dX5_chain_52 (by decide) ?_
          refine lv_icmp_ne (tgt := 64) hx hb dX5_chain_53 (by decide) (fun c7 => ?_) (fun c7 => ?_)
          · replace hF := it_f c7 hF
            refine lv_iload_n hx hb dX5_chain_64 rfl (lv_at hl 2 rfl) ?_
            refine lv_iconst (v := 2) hx hb dX5_chain_65 (by decide) ?_
            refine lv_icmp_ne (tgt := 81) hx hb dX5_chain_66 (by decide) (fun c8 => ?_) (fun c8 => ?_)
            · replace hF := it_f c8 hF
              refine lv_aload_n hx hb dX5_chain_81 rfl (lv_at hl 0 rfl) ?_
              refine lv_iload_n hx hb dX5_chain_82 rfl (lv_at hl 1 rfl) ?_
              obtain ⟨r9, u9, e9, hF⟩ := bnd_s hF
              refine tw_calli (va_runV (As := [.int p1]) (rest := []) ⟨hx, hb, hml, hown, hts⟩ (mt_rootsOf l dC dI cI cZ m0 ad H.size (tw_sf u3 6 2) n  p1 _ e9) (cwV 1 hts (lw_V q2328 q2330 qs85 q125 q2331) rfl rfl rfl (by decide +kernel) ⟨Nat.le_of_ble_eq_true rfl, Nat.le_of_ble_eq_true rfl⟩) (tw_preV hK hP hD _) rfl rfl hl.1 rfl (lv_room (Nat.le_of_ble_eq_true rfl)) dX5_chain_83 ⟨Nat.le_of_ble_eq_true rfl, Nat.le_of_ble_eq_true rfl⟩) hS hD hAA (fun rr uu H locs hw hP hD hS => ?_)
              obtain rfl : r9 = rr := (congrArg Prod.fst hw).symm
              obtain rfl : u9 = uu := (congrArg Prod.snd hw).symm
              exact W.iret (v := r9) hx hb hr (fun t ht hW => ⟨⟨r9, u9, rfl, Option.some.inj hF, by rw [ht]; exact hP, va_K.moved hW.alike hK⟩, hS.F ht⟩) hS.2.2 dX5_chain_86
            · replace hF := it_t c8 hF
              refine lv_aload_n hx hb dX5_chain_69 rfl (lv_at hl 0 rfl) ?_
              refine va_get (D := (dC, dI)) (ci := 0) (v := .ref (ad 0)) (C := RX5) (T := TX5) (N := 28) hx hb hts in_X5 hown hK hP 0 tw_g rfl 0 (by decide) (hts _ q1986) (fun _ h9 => h9) rfl dX5_chain_70 ?_
              refine lv_bipush (v := 89) hx hb dX5_chain_73 (by decide) ?_
              refine lv_iload_n hx hb dX5_chain_75 rfl (lv_at hl 1 rfl) ?_
              refine lv_iadd hx hb dX5_chain_76 ?_
              obtain ⟨g10, hF⟩ := gd_s hF
              refine va_iald hx hb hK hP 1 0 tw_e0 rfl (inB_in g10) dX5_chain_77 ?_
              refine lv_goto (tgt := 86) hx hb dX5_chain_78 (by decide) ?_
              exact W.iret (v := (((tw_sf u3 6 2)).2 0 ((89 + p1)).toNatClampNeg)) hx hb hr (fun t ht hW => ⟨⟨(((tw_sf u3 6 2)).2 0 ((89 + p1)).toNatClampNeg), (tw_sf u3 6 2), rfl, Option.some.inj hF, by rw [ht]; exact hP, va_K.moved hW.alike hK⟩, hS.F ht⟩) hS.2.2 dX5_chain_86
          · replace hF := it_t c7 hF
            refine lv_aload_n hx hb dX5_chain_56 rfl (lv_at hl 0 rfl) ?_
            refine lv_iload_n hx hb dX5_chain_57 rfl (lv_at hl 1 rfl) ?_
            obtain ⟨r11, u11, e11, hF⟩ := bnd_s hF
            refine tw_calli (va_runV (As := [.int p1]) (rest := []) ⟨hx, hb, hml, hown, hts⟩ (mt_firstOf l dC dI cI cZ m0 ad H.size (tw_sf u3 6 2) n  p1 _ e11) (cwV 1 hts (lw_V q2324 q2326 qs84 q125 q2327) rfl rfl rfl (by decide +kernel) ⟨Nat.le_of_ble_eq_true rfl, Nat.le_of_ble_eq_true rfl⟩) (tw_preV hK hP hD _) rfl rfl hl.1 rfl (lv_room (Nat.le_of_ble_eq_true rfl)) dX5_chain_58 ⟨Nat.le_of_ble_eq_true rfl, Nat.le_of_ble_eq_true rfl⟩) hS hD hAA (fun rr uu H locs hw hP hD hS => ?_)
            obtain rfl : r11 = rr := (congrArg Prod.fst hw).symm
            obtain rfl : u11 = uu := (congrArg Prod.snd hw).symm
            refine lv_goto (tgt := 86) hx hb dX5_chain_61 (by decide) ?_
            exact W.iret (v := r11) hx hb hr (fun t ht hW => ⟨⟨r11, u11, rfl, Option.some.inj hF, by rw [ht]; exact hP, va_K.moved hW.alike hK⟩, hS.F ht⟩) hS.2.2 dX5_chain_86
        · replace hF := it_t c6 hF
          refine lv_aload_n hx hb dX5_chain_43 rfl (lv_at hl 0 rfl) ?_
          refine lv_iload_n hx hb dX5_chain_44 rfl (lv_at hl 1 rfl) ?_
          obtain ⟨r12, u12, e12, hF⟩ := bnd_s hF
          refine tw_calli (va_runV (As := [.int p1]) (rest := []) ⟨hx, hb, hml, hown, hts⟩ (mt_directionsOf l dC dI cI cZ m0 ad H.size (tw_sf u3 6 2) n  p1 _ e12) (cwV 1 hts (lw_V q2229 q2231 qs64 q125 q2232) rfl rfl rfl (by decide +kernel) ⟨Nat.le_of_ble_eq_true rfl, Nat.le_of_ble_eq_true rfl⟩) (tw_preV hK hP hD _) rfl rfl hl.1 rfl (lv_room (Nat.le_of_ble_eq_true rfl)) dX5_chain_45 ⟨Nat.le_of_ble_eq_true rfl, Nat.le_of_ble_eq_true rfl⟩) hS hD hAA (fun rr uu H locs hw hP hD hS => ?_)
          obtain rfl : r12 = rr := (congrArg Prod.fst hw).symm
          obtain rfl : u12 = uu := (congrArg Prod.snd hw).symm
          refine lv_goto (tgt := 86) hx hb dX5_chain_48 (by decide) ?_
          exact W.iret (v := r12) hx hb hr (fun t ht hW => ⟨⟨r12, u12, rfl, Option.some.inj hF, by rw [ht]; exact hP, va_K.moved hW.alike hK⟩, hS.F ht⟩) hS.2.2 dX5_chain_86
      · replace hF := it_f c5 hF
        refine lv_iconst (v := 0) hx hb dX5_chain_37 (by decide) ?_
        exact W.iret (v := 0) hx hb hr (fun t ht hW => ⟨⟨0, (tw_sf u3 6 2), rfl, Option.some.inj hF, by rw [ht]; exact hP, va_K.moved hW.alike hK⟩, hS.F ht⟩) hS.2.2 dX5_chain_38
    · replace hF := it_f c4 hF
      refine lv_iconst (v := 0) hx hb dX5_chain_22 (by decide) ?_
      refine lv_goto (tgt := 27) hx hb dX5_chain_23 (by decide) ?_
      refine va_put (D := (dC, dI)) (ci := 0) (v := .int 0) (ty := .int) (C := RX5) (T := TX5) (N := 28) hx hb hts in_X5 tyX5 tyX5_ok nmX5 hown hK hP hD hS 0 tw_g rfl 6 (by decide) (hts _ q1992) (fun _ h9 => h9) rfl (tyX5_ok 6 (by decide)) rfl rfl (Nat.le_of_ble_eq_true rfl) dX5_chain_27 (fun H locs hP hD hS => ?_)
      rw [tw_p6] at hP hD
      refine lv_aload_n hx hb dX5_chain_30 rfl (lv_at hl 0 rfl) ?_
      refine va_get (D := (dC, dI)) (ci := 0) (v := .int (((tw_sf u3 6 0)).1 6)) (C := RX5) (T := TX5) (N := 28) hx hb hts in_X5 hown hK hP 0 tw_g rfl 6 (by decide) (hts _ q1992) (fun _ h9 => h9) rfl dX5_chain_31 ?_
      refine lv_if_le (tgt := 39) hx hb dX5_chain_34 (by decide) (fun c13 => ?_) (fun c13 => ?_)
      · replace hF := it_t c13 hF
        refine lv_iload_n hx hb dX5_chain_39 rfl (lv_at hl 2 rfl) ?_
        refine lv_if_ne (tgt := 51) hx hb dX5_chain_40 (by decide) (fun c14 => ?_) (fun c14 => ?_)
        · replace hF := it_f c14 hF
          refine lv_iload_n hx hb dX5_chain_51 rfl (lv_at hl 2 rfl) ?_
          refine lv_iconst (v := 1) hx hb dX5_chain_52 (by decide) ?_
          refine lv_icmp_ne (tgt := 64) hx hb dX5_chain_53 (by decide) (fun c15 => ?_) (fun c15 => ?_)
          · replace hF := it_f c15 hF
            refine lv_iload_n hx hb dX5_chain_64 rfl (lv_at hl 2 rfl) ?_
            refine lv_iconst (v := 2) hx hb dX5_chain_65 (by decide) ?_
            refine lv_icmp_ne (tgt := 81) hx hb dX5_chain_66 (by decide) (fun c16 => ?_) (fun c16 => ?_)
            · replace hF := it_f c16 hF
              refine lv_aload_n hx hb dX5_chain_81 rfl (lv_at hl 0 rfl) ?_
              refine lv_iload_n hx hb dX5_chain_82 rfl (lv_at hl 1 rfl) ?_
              obtain ⟨r17, u17, e17, hF⟩ := bnd_s hF
              refine tw_calli (va_runV (As := [.int p1]) (rest := []) ⟨hx, hb, hml, hown, hts⟩ (mt_rootsOf l dC dI cI cZ m0 ad H.size (tw_sf u3 6 0) n  p1 _ e17) (cwV 1 hts (lw_V q2328 q2330 qs85 q125 q2331) rfl rfl rfl (by decide +kernel) ⟨Nat.le_of_ble_eq_true rfl, Nat.le_of_ble_eq_true rfl⟩) (tw_preV hK hP hD _) rfl rfl hl.1 rfl (lv_room (Nat.le_of_ble_eq_true rfl)) dX5_chain_83 ⟨Nat.le_of_ble_eq_true rfl, Nat.le_of_ble_eq_true rfl⟩) hS hD hAA (fun rr uu H locs hw hP hD hS => ?_)
              obtain rfl : r17 = rr := (congrArg Prod.fst hw).symm
              obtain rfl : u17 = uu := (congrArg Prod.snd hw).symm
              exact W.iret (v := r17) hx hb hr (fun t ht hW => ⟨⟨r17, u17, rfl, Option.some.inj hF, by rw [ht]; exact hP, va_K.moved hW.alike hK⟩, hS.F ht⟩) hS.2.2 dX5_chain_86
            · replace hF := it_t c16 hF
              refine lv_aload_n hx hb dX5_chain_69 rfl (lv_at hl 0 rfl) ?_
              refine va_get (D := (dC, dI)) (ci := 0) (v := .ref (ad 0)) (C := RX5) (T := TX5) (N := 28) hx hb hts in_X5 hown hK hP 0 tw_g rfl 0 (by decide) (hts _ q1986) (fun _ h9 => h9) rfl dX5_chain_70 ?_
              refine lv_bipush (v := 89) hx hb dX5_chain_73 (by decide) ?_
              refine lv_iload_n hx hb dX5_chain_75 rfl (lv_at hl 1 rfl) ?_
              refine lv_iadd hx hb dX5_chain_76 ?_
              obtain ⟨g18, hF⟩ := gd_s hF
              refine va_iald hx hb hK hP 1 0 tw_e0 rfl (inB_in g18) dX5_chain_77 ?_
              refine lv_goto (tgt := 86) hx hb dX5_chain_78 (by decide) ?_
              exact W.iret (v := (((tw_sf u3 6 0)).2 0 ((89 + p1)).toNatClampNeg)) hx hb hr (fun t ht hW => ⟨⟨(((tw_sf u3 6 0)).2 0 ((89 + p1)).toNatClampNeg), (tw_sf u3 6 0), rfl, Option.some.inj hF, by rw [ht]; exact hP, va_K.moved hW.alike hK⟩, hS.F ht⟩) hS.2.2 dX5_chain_86
          · replace hF := it_t c15 hF
            refine lv_aload_n hx hb dX5_chain_56 rfl (lv_at hl 0 rfl) ?_
            refine lv_iload_n hx hb dX5_chain_57 rfl (lv_at hl 1 rfl) ?_
            obtain ⟨r19, u19, e19, hF⟩ := bnd_s hF
            refine tw_calli (va_runV (As := [.int p1]) (rest := []) ⟨hx, hb, hml, hown, hts⟩ (mt_firstOf l dC dI cI cZ m0 ad H.size (tw_sf u3 6 0) n  p1 _ e19) (cwV 1 hts (lw_V q2324 q2326 qs84 q125 q2327) rfl rfl rfl (by decide +kernel) ⟨Nat.le_of_ble_eq_true rfl, Nat.le_of_ble_eq_true rfl⟩) (tw_preV hK hP hD _) rfl rfl hl.1 rfl (lv_room (Nat.le_of_ble_eq_true rfl)) dX5_chain_58 ⟨Nat.le_of_ble_eq_true rfl, Nat.le_of_ble_eq_true rfl⟩) hS hD hAA (fun rr uu H locs hw hP hD hS => ?_)
            obtain rfl : r19 = rr := (congrArg Prod.fst hw).symm
            obtain rfl : u19 = uu := (congrArg Prod.snd hw).symm
            refine lv_goto (tgt := 86) hx hb dX5_chain_61 (by decide) ?_
            exact W.iret (v := r19) hx hb hr (fun t ht hW => ⟨⟨r19, u19, rfl, Option.some.inj hF, by rw [ht]; exact hP, va_K.moved hW.alike hK⟩, hS.F ht⟩) hS.2.2 dX5_chain_86
        · replace hF := it_t c14 hF
          refine lv_aload_n hx hb dX5_chain_43 rfl (lv_at hl 0 rfl) ?_
          refine lv_iload_n hx hb dX5_chain_44 rfl (lv_at hl 1 rfl) ?_
          obtain ⟨r20, u20, e20, hF⟩ := bnd_s hF
          refine tw_calli (va_runV (As := [.int p1]) (rest := []) ⟨hx, hb, hml, hown, hts⟩ (mt_directionsOf l dC dI cI cZ m0 ad H.size (tw_sf u3 6 0) n  p1 _ e20) (cwV 1 hts (lw_V q2229 q2231 qs64 q125 q2232) rfl rfl rfl (by decide +kernel) ⟨Nat.le_of_ble_eq_true rfl, Nat.le_of_ble_eq_true rfl⟩) (tw_preV hK hP hD _) rfl rfl hl.1 rfl (lv_room (Nat.le_of_ble_eq_true rfl)) dX5_chain_45 ⟨Nat.le_of_ble_eq_true rfl, Nat.le_of_ble_eq_true rfl⟩) hS hD hAA (fun rr uu H locs hw hP hD hS => ?_)
          obtain rfl : r20 = rr := (congrArg Prod.fst hw).symm
          obtain rfl : u20 = uu := (congrArg Prod.snd hw).symm
          refine lv_goto (tgt := 86) hx hb dX5_chain_48 (by decide) ?_
          exact W.iret (v := r20) hx hb hr (fun t ht hW => ⟨⟨r20, u20, rfl, Option.some.inj hF, by rw [ht]; exact hP, va_K.moved hW.alike hK⟩, hS.F ht⟩) hS.2.2 dX5_chain_86
      · replace hF := it_f c13 hF
        refine lv_iconst (v := 0) hx hb dX5_chain_37 (by decide) ?_
        exact W.iret (v := 0) hx hb hr (fun t ht hW => ⟨⟨0, (tw_sf u3 6 0), rfl, Option.some.inj hF, by rw [ht]; exact hP, va_K.moved hW.alike hK⟩, hS.F ht⟩) hS.2.2 dX5_chain_38
  · replace hF := it_t c2 hF
    refine lv_iconst (v := 1) hx hb dX5_chain_9 (by decide) ?_
    refine lv_goto (tgt := 27) hx hb dX5_chain_10 (by decide) ?_
    refine va_put (D := (dC, dI)) (ci := 0) (v := .int 1) (ty := .int) (C := RX5) (T := TX5) (N := 28) hx hb hts in_X5 tyX5 tyX5_ok nmX5 hown hK hP hD hS 0 tw_g rfl 6 (by decide) (hts _ q1992) (fun _ h9 => h9) rfl (tyX5_ok 6 (by decide)) rfl rfl (Nat.le_of_ble_eq_true rfl) dX5_chain_27 (fun H locs hP hD hS => ?_)
    rw [tw_p6] at hP hD
    refine lv_aload_n hx hb dX5_chain_30 rfl (lv_at hl 0 rfl) ?_
    refine va_get (D := (dC, dI)) (ci := 0) (v := .int (((tw_sf u1 6 1)).1 6)) (C := RX5) (T := TX5) (N := 28) hx hb hts in_X5 hown hK hP 0 tw_g rfl 6 (by decide) (hts _ q1992) (fun _ h9 => h9) rfl dX5_chain_31 ?_
    refine lv_if_le (tgt := 39) hx hb dX5_chain_34 (by decide) (fun c21 => ?_) (fun c21 => ?_)
    · replace hF := it_t c21 hF
      refine lv_iload_n hx hb dX5_chain_39 rfl (lv_at hl 2 rfl) ?_
      refine lv_if_ne (tgt := 51) hx hb dX5_chain_40 (by decide) (fun c22 => ?_) (fun c22 => ?_)
      · replace hF := it_f c22 hF
        refine lv_iload_n hx hb dX5_chain_51 rfl (lv_at hl 2 rfl) ?_
        refine lv_iconst (v := 1) hx hb dX5_chain_52 (by decide) ?_
        refine lv_icmp_ne (tgt := 64) hx hb dX5_chain_53 (by decide) (fun c23 => ?_) (fun c23 => ?_)
        · replace hF := it_f c23 hF
          refine lv_iload_n hx hb dX5_chain_64 rfl (lv_at hl 2 rfl) ?_
          refine lv_iconst (v := 2) hx hb dX5_chain_65 (by decide) ?_
          refine lv_icmp_ne (tgt := 81) hx hb dX5_chain_66 (by decide) (fun c24 => ?_) (fun c24 => ?_)
          · replace hF := it_f c24 hF
            refine lv_aload_n hx hb dX5_chain_81 rfl (lv_at hl 0 rfl) ?_
            refine lv_iload_n hx hb dX5_chain_82 rfl (lv_at hl 1 rfl) ?_
            obtain ⟨r25, u25, e25, hF⟩ := bnd_s hF
            refine tw_calli (va_runV (As := [.int p1]) (rest := []) ⟨hx, hb, hml, hown, hts⟩ (mt_rootsOf l dC dI cI cZ m0 ad H.size (tw_sf u1 6 1) n  p1 _ e25) (cwV 1 hts (lw_V q2328 q2330 qs85 q125 q2331) rfl rfl rfl (by decide +kernel) ⟨Nat.le_of_ble_eq_true rfl, Nat.le_of_ble_eq_true rfl⟩) (tw_preV hK hP hD _) rfl rfl hl.1 rfl (lv_room (Nat.le_of_ble_eq_true rfl)) dX5_chain_83 ⟨Nat.le_of_ble_eq_true rfl, Nat.le_of_ble_eq_true rfl⟩) hS hD hAA (fun rr uu H locs hw hP hD hS => ?_)
            obtain rfl : r25 = rr := (congrArg Prod.fst hw).symm
            obtain rfl : u25 = uu := (congrArg Prod.snd hw).symm
            exact W.iret (v := r25) hx hb hr (fun t ht hW => ⟨⟨r25, u25, rfl, Option.some.inj hF, by rw [ht]; exact hP, va_K.moved hW.alike hK⟩, hS.F ht⟩) hS.2.2 dX5_chain_86
          · replace hF := it_t c24 hF
            refine lv_aload_n hx hb dX5_chain_69 rfl (lv_at hl 0 rfl) ?_
            refine va_get (D := (dC, dI)) (ci := 0) (v := .ref (ad 0)) (C := RX5) (T := TX5) (N := 28) hx hb hts in_X5 hown hK hP 0 tw_g rfl 0 (by decide) (hts _ q1986) (fun _ h9 => h9) rfl dX5_chain_70 ?_
            refine lv_bipush (v := 89) hx hb dX5_chain_73 (by decide) ?_
            refine lv_iload_n hx hb dX5_chain_75 rfl (lv_at hl 1 rfl) ?_
            refine lv_iadd hx hb dX5_chain_76 ?_
            obtain ⟨g26, hF⟩ := gd_s hF
            refine va_iald hx hb hK hP 1 0 tw_e0 rfl (inB_in g26) dX5_chain_77 ?_
            refine lv_goto (tgt := 86) hx hb dX5_chain_78 (by decide) ?_
            exact W.iret (v := (((tw_sf u1 6 1)).2 0 ((89 + p1)).toNatClampNeg)) hx hb hr (fun t ht hW => ⟨⟨(((tw_sf u1 6 1)).2 0 ((89 + p1)).toNatClampNeg), (tw_sf u1 6 1), rfl, Option.some.inj hF, by rw [ht]; exact hP, va_K.moved hW.alike hK⟩, hS.F ht⟩) hS.2.2 dX5_chain_86
        · replace hF := it_t c23 hF
          refine lv_aload_n hx hb dX5_chain_56 rfl (lv_at hl 0 rfl) ?_
          refine lv_iload_n hx hb dX5_chain_57 rfl (lv_at hl 1 rfl) ?_
          obtain ⟨r27, u27, e27, hF⟩ := bnd_s hF
          refine tw_calli (va_runV (As := [.int p1]) (rest := []) ⟨hx, hb, hml, hown, hts⟩ (mt_firstOf l dC dI cI cZ m0 ad H.size (tw_sf u1 6 1) n  p1 _ e27) (cwV 1 hts (lw_V q2324 q2326 qs84 q125 q2327) rfl rfl rfl (by decide +kernel) ⟨Nat.le_of_ble_eq_true rfl, Nat.le_of_ble_eq_true rfl⟩) (tw_preV hK hP hD _) rfl rfl hl.1 rfl (lv_room (Nat.le_of_ble_eq_true rfl)) dX5_chain_58 ⟨Nat.le_of_ble_eq_true rfl, Nat.le_of_ble_eq_true rfl⟩) hS hD hAA (fun rr uu H locs hw hP hD hS => ?_)
          obtain rfl : r27 = rr := (congrArg Prod.fst hw).symm
          obtain rfl : u27 = uu := (congrArg Prod.snd hw).symm
          refine lv_goto (tgt := 86) hx hb dX5_chain_61 (by decide) ?_
          exact W.iret (v := r27) hx hb hr (fun t ht hW => ⟨⟨r27, u27, rfl, Option.some.inj hF, by rw [ht]; exact hP, va_K.moved hW.alike hK⟩, hS.F ht⟩) hS.2.2 dX5_chain_86
      · replace hF := it_t c22 hF
        refine lv_aload_n hx hb dX5_chain_43 rfl (lv_at hl 0 rfl) ?_
        refine lv_iload_n hx hb dX5_chain_44 rfl (lv_at hl 1 rfl) ?_
        obtain ⟨r28, u28, e28, hF⟩ := bnd_s hF
        refine tw_calli (va_runV (As := [.int p1]) (rest := []) ⟨hx, hb, hml, hown, hts⟩ (mt_directionsOf l dC dI cI cZ m0 ad H.size (tw_sf u1 6 1) n  p1 _ e28) (cwV 1 hts (lw_V q2229 q2231 qs64 q125 q2232) rfl rfl rfl (by decide +kernel) ⟨Nat.le_of_ble_eq_true rfl, Nat.le_of_ble_eq_true rfl⟩) (tw_preV hK hP hD _) rfl rfl hl.1 rfl (lv_room (Nat.le_of_ble_eq_true rfl)) dX5_chain_45 ⟨Nat.le_of_ble_eq_true rfl, Nat.le_of_ble_eq_true rfl⟩) hS hD hAA (fun rr uu H locs hw hP hD hS => ?_)
        obtain rfl : r28 = rr := (congrArg Prod.fst hw).symm
        obtain rfl : u28 = uu := (congrArg Prod.snd hw).symm
        refine lv_goto (tgt := 86) hx hb dX5_chain_48 (by decide) ?_
        exact W.iret (v := r28) hx hb hr (fun t ht hW => ⟨⟨r28, u28, rfl, Option.some.inj hF, by rw [ht]; exact hP, va_K.moved hW.alike hK⟩, hS.F ht⟩) hS.2.2 dX5_chain_86
    · replace hF := it_f c21 hF
      refine lv_iconst (v := 0) hx hb dX5_chain_37 (by decide) ?_
      exact W.iret (v := 0) hx hb hr (fun t ht hW => ⟨⟨0, (tw_sf u1 6 1), rfl, Option.some.inj hF, by rw [ht]; exact hP, va_K.moved hW.alike hK⟩, hS.F ht⟩) hS.2.2 dX5_chain_38

def F_polynomial (n : Nat) (σ : Tw) (p1 : Int32) (p2 : Int32) : Option (Int32 × Tw) := bnd (F_isChain σ p1) (fun r1 u1 => if r1 = 0 then if (((tw_sf u1 6 1)).1 6) ≤ 0 then bnd (F_works n (tw_sf u1 6 1) p1) (fun r12 u12 => bnd (F_valueAt n (tw_sf u12 20 r12) p2) (fun r13 u13 => some (r13, u13))) else some (0, (tw_sf u1 6 1)) else bnd (F_isNumber u1 p2) (fun r3 u3 => if r3 = 0 then if (((tw_sf u3 6 2)).1 6) ≤ 0 then bnd (F_works n (tw_sf u3 6 2) p1) (fun r6 u6 => bnd (F_valueAt n (tw_sf u6 20 r6) p2) (fun r7 u7 => some (r7, u7))) else some (0, (tw_sf u3 6 2)) else if (((tw_sf u3 6 0)).1 6) ≤ 0 then bnd (F_works n (tw_sf u3 6 0) p1) (fun r9 u9 => bnd (F_valueAt n (tw_sf u9 20 r9) p2) (fun r10 u10 => some (r10, u10))) else some (0, (tw_sf u3 6 0))))
set_option maxHeartbeats 4000000 in
set_option maxRecDepth 100000 in
theorem mt_polynomial (l : Launch) (dC : Nat → ClassId) (dI : Nat → Nat → Nat) (cI cZ : ClassId) (m0 : Nat) (ad : Nat → Nat) (sz : Nat) (σ : Tw) (n : Nat)  (p1 : Int32) (p2 : Int32) (out : Int32 × Tw) (hF : F_polynomial n σ p1 p2 = some out) : Met l yX5_polynomial (ws_ yX5_polynomial cX5_polynomial 3 (some .int)) ({ frames := 7, cells := 0, slots := 0, locals := 161 }) (va_Pc [.ref m0, .int p1, .int p2] (tw_Pre dC dI cI cZ m0 ad sz σ)) (va_Qi (fun r u => (r, u) = out) (tw_B dC dI cI cZ m0 ad) (tw_A m0 ad sz)) 0 0 (tw_A m0 ad sz) := by
  refine Met.ofW (cc := cX5_polynomial) (maxL := 3) (ret := (some .int)) (by decide +kernel) rfl ?_
  intro p e s m args below meth c s₁ B hml hv
  obtain ⟨rfl, hsz, hP, hK, hD0⟩ := hv
  have hx := B.exec
  have hb := B.bytes
  have hr := B.returns
  have hts := atoms_spec (ws := (ws_ yX5_polynomial cX5_polynomial 3 (some .int))) B.pre
  have hts : ∀ w ∈ lw_all, w.before _ s = true := fun w h => hts w (List.mem_cons_of_mem _ h)
  have hown : s.vm.findClass RX5 = some m.cls := findClass_of_methodNamed B.named
  have hlocks := B.notSynchronized
  subst hsz
  have hD := tw_Ds (z := s.heap.size) hD0
  have hAA := fun z (h : s.heap.size ≤ z) => tw_Am (m0 := m0) (ad := ad) h
  generalize hAe : tw_A m0 ad s.heap.size = A at hD hAA ⊢
  have hS : va_S A s.heap s.heap [] := va_S.rf
  have hP : va_P (dC, dI) vwCl (tw_ws m0 ad cI cZ σ) s.heap := hP
  have hl := lv_entry ([.ref m0, .int p1, .int p2]) (n := 3) (Nat.le_of_ble_eq_true rfl)
  rw [lg_entry_eq]
  generalize (lg_sl ([.ref m0, .int p1, .int p2]) ++ List.replicate (3 - (lg_sl ([.ref m0, .int p1, .int p2])).length) Slot.unset).toArray = ls at hl ⊢
  have hl : lv_has ls 3 [(0, .ref m0), (1, .int p1), (2, .int p2)] := hl
  unfold F_polynomial at hF
  refine lv_aload_n hx hb dX5_polynomial_0 rfl (lv_at hl 0 rfl) ?_
  refine lv_aload_n hx hb dX5_polynomial_1 rfl (lv_at hl 0 rfl) ?_
  refine lv_iload_n hx hb dX5_polynomial_2 rfl (lv_at hl 1 rfl) ?_
  obtain ⟨r1, u1, e1, hF⟩ := bnd_s hF
  refine tw_calli (va_runV (As := [.int p1]) (rest := [.ref m0]) ⟨hx, hb, hml, hown, hts⟩ (mt_isChain l dC dI cI cZ m0 ad s.heap.size σ  p1 _ e1) (cwV 1 hts (lw_V q2320 q2322 qs83 q125 q2323) rfl rfl rfl (by decide +kernel) ⟨Nat.le_of_ble_eq_true rfl, Nat.le_of_ble_eq_true rfl⟩) (tw_preV hK hP hD _) rfl rfl hl.1 rfl (lv_room (Nat.le_of_ble_eq_true rfl)) dX5_polynomial_3 ⟨Nat.le_of_ble_eq_true rfl, Nat.le_of_ble_eq_true rfl⟩) hS hD hAA (fun rr uu H locs hw hP hD hS => ?_)
  obtain rfl : r1 = rr := (congrArg Prod.fst hw).symm
  obtain rfl : u1 = uu := (congrArg Prod.snd hw).symm
  refine lv_if_ne (tgt := 13) hx hb dX5_polynomial_6 (by decide) (fun c2 => ?_) (fun c2 => ?_)
  · replace hF := it_f c2 hF
    refine lv_aload_n hx hb dX5_polynomial_13 rfl (lv_at hl 0 rfl) ?_
    refine lv_iload_n hx hb dX5_polynomial_14 rfl (lv_at hl 2 rfl) ?_
    obtain ⟨r3, u3, e3, hF⟩ := bnd_s hF
    refine tw_calli (va_runV (As := [.int p2]) (rest := [.ref m0]) ⟨hx, hb, hml, hown, hts⟩ (mt_isNumber l dC dI cI cZ m0 ad H.size u1  p2 _ e3) (cwV 1 hts (lw_V q2193 q2195 qs60 q125 q2196) rfl rfl rfl (by decide +kernel) ⟨Nat.le_of_ble_eq_true rfl, Nat.le_of_ble_eq_true rfl⟩) (tw_preV hK hP hD _) rfl rfl hl.1 rfl (lv_room (Nat.le_of_ble_eq_true rfl)) dX5_polynomial_15 ⟨Nat.le_of_ble_eq_true rfl, Nat.le_of_ble_eq_true rfl⟩) hS hD hAA (fun rr uu H locs hw hP hD hS => ?_)
    obtain rfl : r3 = rr := (congrArg Prod.fst hw).symm
    obtain rfl : u3 = uu := (congrArg Prod.snd hw).symm
    refine lv_if_eq (tgt := 25) hx hb dX5_polynomial_18 (by decide) (fun c4 => ?_) (fun c4 => ?_)
    · replace hF := it_t c4 hF
      refine lv_iconst (v := 2) hx hb dX5_polynomial_25 (by decide) ?_
      refine va_put (D := (dC, dI)) (ci := 0) (v := .int 2) (ty := .int) (C := RX5) (T := TX5) (N := 28) hx hb hts in_X5 tyX5 tyX5_ok nmX5 hown hK hP hD hS 0 tw_g rfl 6 (by decide) (hts _ q1992) (fun _ h9 => h9) rfl (tyX5_ok 6 (by decide)) rfl rfl (Nat.le_of_ble_eq_true rfl) dX5_polynomial_26 (fun H locs hP hD hS => ?_)
      rw [tw_p6] at hP hD
      refine lv_aload_n hx hb dX5_polynomial_29 rfl (lv_at hl 0 rfl) ?_
      refine va_get (D := (dC, dI)) (ci := 0) (v := .int (((tw_sf u3 6 2)).1 6)) (C := RX5) (T := TX5) (N := 28) hx hb hts in_X5 hown hK hP 0 tw_g rfl 6 (by decide) (hts _ q1992) (fun _ h9 => h9) rfl dX5_polynomial_30 ?_
      refine lv_if_le (tgt := 38) hx hb dX5_polynomial_33 (by decide) (fun c5 => ?_) (fun c5 => ?_)
      · replace hF := it_t c5 hF
        refine lv_aload_n hx hb dX5_polynomial_38 rfl (lv_at hl 0 rfl) ?_
        refine lv_aload_n hx hb dX5_polynomial_39 rfl (lv_at hl 0 rfl) ?_
        refine lv_iload_n hx hb dX5_polynomial_40 rfl (lv_at hl 1 rfl) ?_
        obtain ⟨r6, u6, e6, hF⟩ := bnd_s hF
        refine tw_calli (va_runV (As := [.int p1]) (rest := [.ref m0]) ⟨hx, hb, hml, hown, hts⟩ (mt_works l dC dI cI cZ m0 ad H.size (tw_sf u3 6 2) n  p1 _ e6) (cwV 1 hts (lw_V q2332 q2334 qs86 q125 q2335) rfl rfl rfl (by decide +kernel) ⟨Nat.le_of_ble_eq_true rfl, Nat.le_of_ble_eq_true rfl⟩) (tw_preV hK hP hD _) rfl rfl hl.1 rfl (lv_room (Nat.le_of_ble_eq_true rfl)) dX5_polynomial_41 ⟨Nat.le_of_ble_eq_true rfl, Nat.le_of_ble_eq_true rfl⟩) hS hD hAA (fun rr uu H locs hw hP hD hS => ?_)
        obtain rfl : r6 = rr := (congrArg Prod.fst hw).symm
        obtain rfl : u6 = uu := (congrArg Prod.snd hw).symm
        refine va_put (D := (dC, dI)) (ci := 0) (v := .int r6) (ty := .int) (C := RX5) (T := TX5) (N := 28) hx hb hts in_X5 tyX5 tyX5_ok nmX5 hown hK hP hD hS 0 tw_g rfl 20 (by decide) (hts _ q2006) (fun _ h9 => h9) rfl (tyX5_ok 20 (by decide)) rfl rfl (Nat.le_of_ble_eq_true rfl) dX5_polynomial_44 (fun H locs hP hD hS => ?_)
        rw [tw_p20] at hP hD
        refine lv_aload_n hx hb dX5_polynomial_47 rfl (lv_at hl 0 rfl) ?_
        refine lv_iload_n hx hb dX5_polynomial_48 rfl (lv_at hl 2 rfl) ?_
        obtain ⟨r7, u7, e7, hF⟩ := bnd_s hF
        refine tw_calli (va_runV (As := [.int p2]) (rest := []) ⟨hx, hb, hml, hown, hts⟩ (mt_valueAt l dC dI cI cZ m0 ad H.size (tw_sf u6 20 r6) n  p2 _ e7) (cwV 1 hts (lw_V q2340 q2342 qs88 q125 q2343) rfl rfl rfl (by decide +kernel) ⟨Nat.le_of_ble_eq_true rfl, Nat.le_of_ble_eq_true rfl⟩) (tw_preV hK hP hD _) rfl rfl hl.1 rfl (lv_room (Nat.le_of_ble_eq_true rfl)) dX5_polynomial_49 ⟨Nat.le_of_ble_eq_true rfl, Nat.le_of_ble_eq_true rfl⟩) hS hD hAA (fun rr uu H locs hw hP hD hS => ?_)
        obtain rfl : r7 = rr := (congrArg Prod.fst hw).symm
        obtain rfl : u7 = uu := (congrArg Prod.snd hw).symm
        exact W.iret (v := r7) hx hb hr (fun t ht hW => ⟨⟨r7, u7, rfl, Option.some.inj hF, by rw [ht]; exact hP, va_K.moved hW.alike hK⟩, hS.F ht⟩) hS.2.2 dX5_polynomial_52
      · replace hF := it_f c5 hF
        refine lv_iconst (v := 0) hx hb dX5_polynomial_36 (by decide) ?_
        exact W.iret (v := 0) hx hb hr (fun t ht hW => ⟨⟨0, (tw_sf u3 6 2), rfl, Option.some.inj hF, by rw [ht]; exact hP, va_K.moved hW.alike hK⟩, hS.F ht⟩) hS.2.2 dX5_polynomial_37
    · replace hF := it_f c4 hF
      refine lv_iconst (v := 0) hx hb dX5_polynomial_21 (by decide) ?_
      refine lv_goto (tgt := 26) hx hb dX5_polynomial_22 (by decide) ?_
      refine va_put (D := (dC, dI)) (ci := 0) (v := .int 0) (ty := .int) (C := RX5) (T := TX5) (N := 28) hx hb hts in_X5 tyX5 tyX5_ok nmX5 hown hK hP hD hS 0 tw_g rfl 6 (by decide) (hts _ q1992) (fun _ h9 => h9) rfl (tyX5_ok 6 (by decide)) rfl rfl (Nat.le_of_ble_eq_true rfl) dX5_polynomial_26 (fun H locs hP hD hS => ?_)
      rw [tw_p6] at hP hD
      refine lv_aload_n hx hb dX5_polynomial_29 rfl (lv_at hl 0 rfl) ?_
      refine va_get (D := (dC, dI)) (ci := 0) (v := .int (((tw_sf u3 6 0)).1 6)) (C := RX5) (T := TX5) (N := 28) hx hb hts in_X5 hown hK hP 0 tw_g rfl 6 (by decide) (hts _ q1992) (fun _ h9 => h9) rfl dX5_polynomial_30 ?_
      refine lv_if_le (tgt := 38) hx hb dX5_polynomial_33 (by decide) (fun c8 => ?_) (fun c8 => ?_)
      · replace hF := it_t c8 hF
        refine lv_aload_n hx hb dX5_polynomial_38 rfl (lv_at hl 0 rfl) ?_
        refine lv_aload_n hx hb dX5_polynomial_39 rfl (lv_at hl 0 rfl) ?_
        refine lv_iload_n hx hb dX5_polynomial_40 rfl (lv_at hl 1 rfl) ?_
        obtain ⟨r9, u9, e9, hF⟩ := bnd_s hF
        refine tw_calli (va_runV (As := [.int p1]) (rest := [.ref m0]) ⟨hx, hb, hml, hown, hts⟩ (mt_works l dC dI cI cZ m0 ad H.size (tw_sf u3 6 0) n  p1 _ e9) (cwV 1 hts (lw_V q2332 q2334 qs86 q125 q2335) rfl rfl rfl (by decide +kernel) ⟨Nat.le_of_ble_eq_true rfl, Nat.le_of_ble_eq_true rfl⟩) (tw_preV hK hP hD _) rfl rfl hl.1 rfl (lv_room (Nat.le_of_ble_eq_true rfl)) dX5_polynomial_41 ⟨Nat.le_of_ble_eq_true rfl, Nat.le_of_ble_eq_true rfl⟩) hS hD hAA (fun rr uu H locs hw hP hD hS => ?_)
        obtain rfl : r9 = rr := (congrArg Prod.fst hw).symm
        obtain rfl : u9 = uu := (congrArg Prod.snd hw).symm
        refine va_put (D := (dC, dI)) (ci := 0) (v := .int r9) (ty := .int) (C := RX5) (T := TX5) (N := 28) hx hb hts in_X5 tyX5 tyX5_ok nmX5 hown hK hP hD hS 0 tw_g rfl 20 (by decide) (hts _ q2006) (fun _ h9 => h9) rfl (tyX5_ok 20 (by decide)) rfl rfl (Nat.le_of_ble_eq_true rfl) dX5_polynomial_44 (fun H locs hP hD hS => ?_)
        rw [tw_p20] at hP hD
        refine lv_aload_n hx hb dX5_polynomial_47 rfl (lv_at hl 0 rfl) ?_
        refine lv_iload_n hx hb dX5_polynomial_48 rfl (lv_at hl 2 rfl) ?_
        obtain ⟨r10, u10, e10, hF⟩ := bnd_s hF
        refine tw_calli (va_runV (As := [.int p2]) (rest := []) ⟨hx, hb, hml, hown, hts⟩ (mt_valueAt l dC dI cI cZ m0 ad H.size (tw_sf u9 20 r9) n  p2 _ e10) (cwV 1 hts (lw_V q2340 q2342 qs88 q125 q2343) rfl rfl rfl (by decide +kernel) ⟨Nat.le_of_ble_eq_true rfl, Nat.le_of_ble_eq_true rfl⟩) (tw_preV hK hP hD _) rfl rfl hl.1 rfl (lv_room (Nat.le_of_ble_eq_true rfl)) dX5_polynomial_49 ⟨Nat.le_of_ble_eq_true rfl, Nat.le_of_ble_eq_true rfl⟩) hS hD hAA (fun rr uu H locs hw hP hD hS => ?_)
        obtain rfl : r10 = rr := (congrArg Prod.fst hw).symm
        obtain rfl : u10 = uu := (congrArg Prod.snd hw).symm
        exact W.iret (v := r10) hx hb hr (fun t ht hW => ⟨⟨r10, u10, rfl, Option.some.inj hF, by rw [ht]; exact hP, va_K.moved hW.alike hK⟩, hS.F ht⟩) hS.2.2 dX5_polynomial_52
      · replace hF := it_f c8 hF
        refine lv_iconst (v := 0) hx hb dX5_polynomial_36 (by decide) ?_
        exact W.iret (v := 0) hx hb hr (fun t ht hW => ⟨⟨0, (tw_sf u3 6 0), rfl, Option.some.inj hF, by rw [ht]; exact hP, va_K.moved hW.alike hK⟩, hS.F ht⟩) hS.2.2 dX5_polynomial_37
  · replace hF := it_t c2 hF
    refine lv_iconst (v := 1) hx hb dX5_polynomial_9 (by decide) ?_
    refine lv_goto (tgt := 26) hx hb dX5_polynomial_10 (by decide) ?_
    refine va_put (D := (dC, dI)) (ci := 0) (v := .int 1) (ty := .int) (C := RX5) (T := TX5) (N := 28) hx hb hts in_X5 tyX5 tyX5_ok nmX5 hown hK hP hD hS 0 tw_g rfl 6 (by decide) (hts _ q1992) (fun _ h9 => h9) rfl (tyX5_ok 6 (by decide)) rfl rfl (Nat.le_of_ble_eq_true rfl) dX5_polynomial_26 (fun H locs hP hD hS => ?_)
    rw [tw_p6] at hP hD
    refine lv_aload_n hx hb dX5_polynomial_29 rfl (lv_at hl 0 rfl) ?_
    refine va_get (D := (dC, dI)) (ci := 0) (v := .int (((tw_sf u1 6 1)).1 6)) (C := RX5) (T := TX5) (N := 28) hx hb hts in_X5 hown hK hP 0 tw_g rfl 6 (by decide) (hts _ q1992) (fun _ h9 => h9) rfl dX5_polynomial_30 ?_
    refine lv_if_le (tgt := 38) hx hb dX5_polynomial_33 (by decide) (fun c11 => ?_) (fun c11 => ?_)
    · replace hF := it_t c11 hF
      refine lv_aload_n hx hb dX5_polynomial_38 rfl (lv_at hl 0 rfl) ?_
      refine lv_aload_n hx hb dX5_polynomial_39 rfl (lv_at hl 0 rfl) ?_
      refine lv_iload_n hx hb dX5_polynomial_40 rfl (lv_at hl 1 rfl) ?_
      obtain ⟨r12, u12, e12, hF⟩ := bnd_s hF
      refine tw_calli (va_runV (As := [.int p1]) (rest := [.ref m0]) ⟨hx, hb, hml, hown, hts⟩ (mt_works l dC dI cI cZ m0 ad H.size (tw_sf u1 6 1) n  p1 _ e12) (cwV 1 hts (lw_V q2332 q2334 qs86 q125 q2335) rfl rfl rfl (by decide +kernel) ⟨Nat.le_of_ble_eq_true rfl, Nat.le_of_ble_eq_true rfl⟩) (tw_preV hK hP hD _) rfl rfl hl.1 rfl (lv_room (Nat.le_of_ble_eq_true rfl)) dX5_polynomial_41 ⟨Nat.le_of_ble_eq_true rfl, Nat.le_of_ble_eq_true rfl⟩) hS hD hAA (fun rr uu H locs hw hP hD hS => ?_)
      obtain rfl : r12 = rr := (congrArg Prod.fst hw).symm
      obtain rfl : u12 = uu := (congrArg Prod.snd hw).symm
      refine va_put (D := (dC, dI)) (ci := 0) (v := .int r12) (ty := .int) (C := RX5) (T := TX5) (N := 28) hx hb hts in_X5 tyX5 tyX5_ok nmX5 hown hK hP hD hS 0 tw_g rfl 20 (by decide) (hts _ q2006) (fun _ h9 => h9) rfl (tyX5_ok 20 (by decide)) rfl rfl (Nat.le_of_ble_eq_true rfl) dX5_polynomial_44 (fun H locs hP hD hS => ?_)
      rw [tw_p20] at hP hD
      refine lv_aload_n hx hb dX5_polynomial_47 rfl (lv_at hl 0 rfl) ?_
      refine lv_iload_n hx hb dX5_polynomial_48 rfl (lv_at hl 2 rfl) ?_
      obtain ⟨r13, u13, e13, hF⟩ := bnd_s hF
      refine tw_calli (va_runV (As := [.int p2]) (rest := []) ⟨hx, hb, hml, hown, hts⟩ (mt_valueAt l dC dI cI cZ m0 ad H.size (tw_sf u12 20 r12) n  p2 _ e13) (cwV 1 hts (lw_V q2340 q2342 qs88 q125 q2343) rfl rfl rfl (by decide +kernel) ⟨Nat.le_of_ble_eq_true rfl, Nat.le_of_ble_eq_true rfl⟩) (tw_preV hK hP hD _) rfl rfl hl.1 rfl (lv_room (Nat.le_of_ble_eq_true rfl)) dX5_polynomial_49 ⟨Nat.le_of_ble_eq_true rfl, Nat.le_of_ble_eq_true rfl⟩) hS hD hAA (fun rr uu H locs hw hP hD hS => ?_)
      obtain rfl : r13 = rr := (congrArg Prod.fst hw).symm
      obtain rfl : u13 = uu := (congrArg Prod.snd hw).symm
      exact W.iret (v := r13) hx hb hr (fun t ht hW => ⟨⟨r13, u13, rfl, Option.some.inj hF, by rw [ht]; exact hP, va_K.moved hW.alike hK⟩, hS.F ht⟩) hS.2.2 dX5_polynomial_52
    · replace hF := it_f c11 hF
      refine lv_iconst (v := 0) hx hb dX5_polynomial_36 (by decide) ?_
      exact W.iret (v := 0) hx hb hr (fun t ht hW => ⟨⟨0, (tw_sf u1 6 1), rfl, Option.some.inj hF, by rw [ht]; exact hP, va_K.moved hW.alike hK⟩, hS.F ht⟩) hS.2.2 dX5_polynomial_37

def F_coefficient (n : Nat) (σ : Tw) (p1 : Int32) (p2 : Int32) : Option (Int32 × Tw) := bnd (F_isChain σ p1) (fun r1 u1 => if r1 = 0 then if (((tw_sf u1 6 1)).1 6) ≤ 0 then bnd (F_works n (tw_sf u1 6 1) p1) (fun r13 u13 => gd (inB p2 9) (some ((((tw_sf u13 20 r13)).2 23 (p2).toNatClampNeg), (tw_sf u13 20 r13)))) else some (0, (tw_sf u1 6 1)) else bnd (F_directionsOf n u1 p1) (fun r3 u3 => bnd (F_isIn u3 p2 0 r3) (fun r4 u4 => if r4 = 0 then if (((tw_sf u4 6 2)).1 6) ≤ 0 then bnd (F_works n (tw_sf u4 6 2) p1) (fun r7 u7 => gd (inB p2 9) (some ((((tw_sf u7 20 r7)).2 23 (p2).toNatClampNeg), (tw_sf u7 20 r7)))) else some (0, (tw_sf u4 6 2)) else if (((tw_sf u4 6 0)).1 6) ≤ 0 then bnd (F_works n (tw_sf u4 6 0) p1) (fun r10 u10 => gd (inB p2 9) (some ((((tw_sf u10 20 r10)).2 23 (p2).toNatClampNeg), (tw_sf u10 20 r10)))) else some (0, (tw_sf u4 6 0)))))
set_option maxHeartbeats 4000000 in
set_option maxRecDepth 100000 in
theorem mt_coefficient (l : Launch) (dC : Nat → ClassId) (dI : Nat → Nat → Nat) (cI cZ : ClassId) (m0 : Nat) (ad : Nat → Nat) (sz : Nat) (σ : Tw) (n : Nat)  (p1 : Int32) (p2 : Int32) (out : Int32 × Tw) (hF : F_coefficient n σ p1 p2 = some out) : Met l yX5_coefficient (ws_ yX5_coefficient cX5_coefficient 3 (some .int)) ({ frames := 7, cells := 0, slots := 0, locals := 161 }) (va_Pc [.ref m0, .int p1, .int p2] (tw_Pre dC dI cI cZ m0 ad sz σ)) (va_Qi (fun r u => (r, u) = out) (tw_B dC dI cI cZ m0 ad) (tw_A m0 ad sz)) 0 0 (tw_A m0 ad sz) := by
  refine Met.ofW (cc := cX5_coefficient) (maxL := 3) (ret := (some .int)) (by decide +kernel) rfl ?_
  intro p e s m args below meth c s₁ B hml hv
  obtain ⟨rfl, hsz, hP, hK, hD0⟩ := hv
  have hx := B.exec
  have hb := B.bytes
  have hr := B.returns
  have hts := atoms_spec (ws := (ws_ yX5_coefficient cX5_coefficient 3 (some .int))) B.pre
  have hts : ∀ w ∈ lw_all, w.before _ s = true := fun w h => hts w (List.mem_cons_of_mem _ h)
  have hown : s.vm.findClass RX5 = some m.cls := findClass_of_methodNamed B.named
  have hlocks := B.notSynchronized
  subst hsz
  have hD := tw_Ds (z := s.heap.size) hD0
  have hAA := fun z (h : s.heap.size ≤ z) => tw_Am (m0 := m0) (ad := ad) h
  generalize hAe : tw_A m0 ad s.heap.size = A at hD hAA ⊢
  have hS : va_S A s.heap s.heap [] := va_S.rf
  have hP : va_P (dC, dI) vwCl (tw_ws m0 ad cI cZ σ) s.heap := hP
  have hl := lv_entry ([.ref m0, .int p1, .int p2]) (n := 3) (Nat.le_of_ble_eq_true rfl)
  rw [lg_entry_eq]
  generalize (lg_sl ([.ref m0, .int p1, .int p2]) ++ List.replicate (3 - (lg_sl ([.ref m0, .int p1, .int p2])).length) Slot.unset).toArray = ls at hl ⊢
  have hl : lv_has ls 3 [(0, .ref m0), (1, .int p1), (2, .int p2)] := hl
  unfold F_coefficient at hF
  refine lv_aload_n hx hb dX5_coefficient_0 rfl (lv_at hl 0 rfl) ?_
  refine lv_aload_n hx hb dX5_coefficient_1 rfl (lv_at hl 0 rfl) ?_
  refine lv_iload_n hx hb dX5_coefficient_2 rfl (lv_at hl 1 rfl) ?_
  obtain ⟨r1, u1, e1, hF⟩ := bnd_s hF
  refine tw_calli (va_runV (As := [.int p1]) (rest := [.ref m0]) ⟨hx, hb, hml, hown, hts⟩ (mt_isChain l dC dI cI cZ m0 ad s.heap.size σ  p1 _ e1) (cwV 1 hts (lw_V q2320 q2322 qs83 q125 q2323) rfl rfl rfl (by decide +kernel) ⟨Nat.le_of_ble_eq_true rfl, Nat.le_of_ble_eq_true rfl⟩) (tw_preV hK hP hD _) rfl rfl hl.1 rfl (lv_room (Nat.le_of_ble_eq_true rfl)) dX5_coefficient_3 ⟨Nat.le_of_ble_eq_true rfl, Nat.le_of_ble_eq_true rfl⟩) hS hD hAA (fun rr uu H locs hw hP hD hS => ?_)
  obtain rfl : r1 = rr := (congrArg Prod.fst hw).symm
  obtain rfl : u1 = uu := (congrArg Prod.snd hw).symm
  refine lv_if_ne (tgt := 13) hx hb dX5_coefficient_6 (by decide) (fun c2 => ?_) (fun c2 => ?_)
  · replace hF := it_f c2 hF
    refine lv_iload_n hx hb dX5_coefficient_13 rfl (lv_at hl 2 rfl) ?_
    refine lv_iconst (v := 0) hx hb dX5_coefficient_14 (by decide) ?_
    refine lv_aload_n hx hb dX5_coefficient_15 rfl (lv_at hl 0 rfl) ?_
    refine lv_iload_n hx hb dX5_coefficient_16 rfl (lv_at hl 1 rfl) ?_
    obtain ⟨r3, u3, e3, hF⟩ := bnd_s hF
    refine tw_calli (va_runV (As := [.int p1]) (rest := [.int 0, .int p2, .ref m0]) ⟨hx, hb, hml, hown, hts⟩ (mt_directionsOf l dC dI cI cZ m0 ad H.size u1 n  p1 _ e3) (cwV 1 hts (lw_V q2229 q2231 qs64 q125 q2232) rfl rfl rfl (by decide +kernel) ⟨Nat.le_of_ble_eq_true rfl, Nat.le_of_ble_eq_true rfl⟩) (tw_preV hK hP hD _) rfl rfl hl.1 rfl (lv_room (Nat.le_of_ble_eq_true rfl)) dX5_coefficient_17 ⟨Nat.le_of_ble_eq_true rfl, Nat.le_of_ble_eq_true rfl⟩) hS hD hAA (fun rr uu H locs hw hP hD hS => ?_)
    obtain rfl : r3 = rr := (congrArg Prod.fst hw).symm
    obtain rfl : u3 = uu := (congrArg Prod.snd hw).symm
    obtain ⟨r4, u4, e4, hF⟩ := bnd_s hF
    refine tw_calli (va_runS (As := [.int p2, .int 0, .int r3]) (rest := [.ref m0]) ⟨hx, hb, hml, hown, hts⟩ (mt_isIn l dC dI cI cZ m0 ad H.size u3  p2 0 r3 _ e4) (va_cwS 3 hts (lw_S q2084 q2085 q125 q2086) rfl rfl rfl (by decide +kernel) ⟨Nat.le_of_ble_eq_true rfl, Nat.le_of_ble_eq_true rfl⟩) (tw_preS hK hP hD _) rfl rfl hl.1 rfl (lv_room (Nat.le_of_ble_eq_true rfl)) dX5_coefficient_20 ⟨Nat.le_of_ble_eq_true rfl, Nat.le_of_ble_eq_true rfl⟩) hS hD hAA (fun rr uu H locs hw hP hD hS => ?_)
    obtain rfl : r4 = rr := (congrArg Prod.fst hw).symm
    obtain rfl : u4 = uu := (congrArg Prod.snd hw).symm
    refine lv_if_eq (tgt := 30) hx hb dX5_coefficient_23 (by decide) (fun c5 => ?_) (fun c5 => ?_)
    · replace hF := it_t c5 hF
      refine lv_iconst (v := 2) hx hb dX5_coefficient_30 (by decide) ?_
      refine va_put (D := (dC, dI)) (ci := 0) (v := .int 2) (ty := .int) (C := RX5) (T := TX5) (N := 28) hx hb hts in_X5 tyX5 tyX5_ok nmX5 hown hK hP hD hS 0 tw_g rfl 6 (by decide) (hts _ q1992) (fun _ h9 => h9) rfl (tyX5_ok 6 (by decide)) rfl rfl (Nat.le_of_ble_eq_true rfl) dX5_coefficient_31 (fun H locs hP hD hS => ?_)
      rw [tw_p6] at hP hD
      refine lv_aload_n hx hb dX5_coefficient_34 rfl (lv_at hl 0 rfl) ?_
      refine va_get (D := (dC, dI)) (ci := 0) (v := .int (((tw_sf u4 6 2)).1 6)) (C := RX5) (T := TX5) (N := 28) hx hb hts in_X5 hown hK hP 0 tw_g rfl 6 (by decide) (hts _ q1992) (fun _ h9 => h9) rfl dX5_coefficient_35 ?_
      refine lv_if_le (tgt := 43) hx hb dX5_coefficient_38 (by decide) (fun c6 => ?_) (fun c6 => ?_)
      · replace hF := it_t c6 hF
        refine lv_aload_n hx hb dX5_coefficient_43 rfl (lv_at hl 0 rfl) ?_
        refine lv_aload_n hx hb dX5_coefficient_44 rfl (lv_at hl 0 rfl) ?_
        refine lv_iload_n hx hb dX5_coefficient_45 rfl (lv_at hl 1 rfl) ?_
        obtain ⟨r7, u7, e7, hF⟩ := bnd_s hF
        refine tw_calli (va_runV (As := [.int p1]) (rest := [.ref m0]) ⟨hx, hb, hml, hown, hts⟩ (mt_works l dC dI cI cZ m0 ad H.size (tw_sf u4 6 2) n  p1 _ e7) (cwV 1 hts (lw_V q2332 q2334 qs86 q125 q2335) rfl rfl rfl (by decide +kernel) ⟨Nat.le_of_ble_eq_true rfl, Nat.le_of_ble_eq_true rfl⟩) (tw_preV hK hP hD _) rfl rfl hl.1 rfl (lv_room (Nat.le_of_ble_eq_true rfl)) dX5_coefficient_46 ⟨Nat.le_of_ble_eq_true rfl, Nat.le_of_ble_eq_true rfl⟩) hS hD hAA (fun rr uu H locs hw hP hD hS => ?_)
        obtain rfl : r7 = rr := (congrArg Prod.fst hw).symm
        obtain rfl : u7 = uu := (congrArg Prod.snd hw).symm
        refine va_put (D := (dC, dI)) (ci := 0) (v := .int r7) (ty := .int) (C := RX5) (T := TX5) (N := 28) hx hb hts in_X5 tyX5 tyX5_ok nmX5 hown hK hP hD hS 0 tw_g rfl 20 (by decide) (hts _ q2006) (fun _ h9 => h9) rfl (tyX5_ok 20 (by decide)) rfl rfl (Nat.le_of_ble_eq_true rfl) dX5_coefficient_49 (fun H locs hP hD hS => ?_)
        rw [tw_p20] at hP hD
        refine lv_aload_n hx hb dX5_coefficient_52 rfl (lv_at hl 0 rfl) ?_
        refine va_get (D := (dC, dI)) (ci := 0) (v := .ref (ad 23)) (C := RX5) (T := TX5) (N := 28) hx hb hts in_X5 hown hK hP 0 tw_g rfl 23 (by decide) (hts _ q2009) (fun _ h9 => h9) rfl dX5_coefficient_53 ?_
        refine lv_iload_n hx hb dX5_coefficient_56 rfl (lv_at hl 2 rfl) ?_
        obtain ⟨g8, hF⟩ := gd_s hF
        refine va_iald hx hb hK hP 12 0 tw_e23 rfl (inB_in g8) dX5_coefficient_57 ?_
        exact W.iret (v := (((tw_sf u7 20 r7)).2 23 (p2).toNatClampNeg)) hx hb hr (fun t ht hW => ⟨⟨(((tw_sf u7 20 r7)).2 23 (p2).toNatClampNeg), (tw_sf u7 20 r7), rfl, Option.some.inj hF, by rw [ht]; exact hP, va_K.moved hW.alike hK⟩, hS.F ht⟩) hS.2.2 dX5_coefficient_58
      · replace hF := it_f c6 hF
        refine lv_iconst (v := 0) hx hb dX5_coefficient_41 (by decide) ?_
        exact W.iret (v := 0) hx hb hr (fun t ht hW => ⟨⟨0, (tw_sf u4 6 2), rfl, Option.some.inj hF, by rw [ht]; exact hP, va_K.moved hW.alike hK⟩, hS.F ht⟩) hS.2.2 dX5_coefficient_42
    · replace hF := it_f c5 hF
      refine lv_iconst (v := 0) hx hb dX5_coefficient_26 (by decide) ?_
      refine lv_goto (tgt := 31) hx hb dX5_coefficient_27 (by decide) ?_
      refine va_put (D := (dC, dI)) (ci := 0) (v := .int 0) (ty := .int) (C := RX5) (T := TX5) (N := 28) hx hb hts in_X5 tyX5 tyX5_ok nmX5 hown hK hP hD hS 0 tw_g rfl 6 (by decide) (hts _ q1992) (fun _ h9 => h9) rfl (tyX5_ok 6 (by decide)) rfl rfl (Nat.le_of_ble_eq_true rfl) dX5_coefficient_31 (fun H locs hP hD hS => ?_)
      rw [tw_p6] at hP hD
      refine lv_aload_n hx hb dX5_coefficient_34 rfl (lv_at hl 0 rfl) ?_
      refine va_get (D := (dC, dI)) (ci := 0) (v := .int (((tw_sf u4 6 0)).1 6)) (C := RX5) (T := TX5) (N := 28) hx hb hts in_X5 hown hK hP 0 tw_g rfl 6 (by decide) (hts _ q1992) (fun _ h9 => h9) rfl dX5_coefficient_35 ?_
      refine lv_if_le (tgt := 43) hx hb dX5_coefficient_38 (by decide) (fun c9 => ?_) (fun c9 => ?_)
      · replace hF := it_t c9 hF
        refine lv_aload_n hx hb dX5_coefficient_43 rfl (lv_at hl 0 rfl) ?_
        refine lv_aload_n hx hb dX5_coefficient_44 rfl (lv_at hl 0 rfl) ?_
        refine lv_iload_n hx hb dX5_coefficient_45 rfl (lv_at hl 1 rfl) ?_
        obtain ⟨r10, u10, e10, hF⟩ := bnd_s hF
        refine tw_calli (va_runV (As := [.int p1]) (rest := [.ref m0]) ⟨hx, hb, hml, hown, hts⟩ (mt_works l dC dI cI cZ m0 ad H.size (tw_sf u4 6 0) n  p1 _ e10) (cwV 1 hts (lw_V q2332 q2334 qs86 q125 q2335) rfl rfl rfl (by decide +kernel) ⟨Nat.le_of_ble_eq_true rfl, Nat.le_of_ble_eq_true rfl⟩) (tw_preV hK hP hD _) rfl rfl hl.1 rfl (lv_room (Nat.le_of_ble_eq_true rfl)) dX5_coefficient_46 ⟨Nat.le_of_ble_eq_true rfl, Nat.le_of_ble_eq_true rfl⟩) hS hD hAA (fun rr uu H locs hw hP hD hS => ?_)
        obtain rfl : r10 = rr := (congrArg Prod.fst hw).symm
        obtain rfl : u10 = uu := (congrArg Prod.snd hw).symm
        refine va_put (D := (dC, dI)) (ci := 0) (v := .int r10) (ty := .int) (C := RX5) (T := TX5) (N := 28) hx hb hts in_X5 tyX5 tyX5_ok nmX5 hown hK hP hD hS 0 tw_g rfl 20 (by decide) (hts _ q2006) (fun _ h9 => h9) rfl (tyX5_ok 20 (by decide)) rfl rfl (Nat.le_of_ble_eq_true rfl) dX5_coefficient_49 (fun H locs hP hD hS => ?_)
        rw [tw_p20] at hP hD
        refine lv_aload_n hx hb dX5_coefficient_52 rfl (lv_at hl 0 rfl) ?_
        refine va_get (D := (dC, dI)) (ci := 0) (v := .ref (ad 23)) (C := RX5) (T := TX5) (N := 28) hx hb hts in_X5 hown hK hP 0 tw_g rfl 23 (by decide) (hts _ q2009) (fun _ h9 => h9) rfl dX5_coefficient_53 ?_
        refine lv_iload_n hx hb dX5_coefficient_56 rfl (lv_at hl 2 rfl) ?_
        obtain ⟨g11, hF⟩ := gd_s hF
        refine va_iald hx hb hK hP 12 0 tw_e23 rfl (inB_in g11) dX5_coefficient_57 ?_
        exact W.iret (v := (((tw_sf u10 20 r10)).2 23 (p2).toNatClampNeg)) hx hb hr (fun t ht hW => ⟨⟨(((tw_sf u10 20 r10)).2 23 (p2).toNatClampNeg), (tw_sf u10 20 r10), rfl, Option.some.inj hF, by rw [ht]; exact hP, va_K.moved hW.alike hK⟩, hS.F ht⟩) hS.2.2 dX5_coefficient_58
      · replace hF := it_f c9 hF
        refine lv_iconst (v := 0) hx hb dX5_coefficient_41 (by decide) ?_
        exact W.iret (v := 0) hx hb hr (fun t ht hW => ⟨⟨0, (tw_sf u4 6 0), rfl, Option.some.inj hF, by rw [ht]; exact hP, va_K.moved hW.alike hK⟩, hS.F ht⟩) hS.2.2 dX5_coefficient_42
  · replace hF := it_t c2 hF
    refine lv_iconst (v := 1) hx hb dX5_coefficient_9 (by decide) ?_
    refine lv_goto (tgt := 31) hx hb dX5_coefficient_10 (by decide) ?_
    refine va_put (D := (dC, dI)) (ci := 0) (v := .int 1) (ty := .int) (C := RX5) (T := TX5) (N := 28) hx hb hts in_X5 tyX5 tyX5_ok nmX5 hown hK hP hD hS 0 tw_g rfl 6 (by decide) (hts _ q1992) (fun _ h9 => h9) rfl (tyX5_ok 6 (by decide)) rfl rfl (Nat.le_of_ble_eq_true rfl) dX5_coefficient_31 (fun H locs hP hD hS => ?_)
    rw [tw_p6] at hP hD
    refine lv_aload_n hx hb dX5_coefficient_34 rfl (lv_at hl 0 rfl) ?_
    refine va_get (D := (dC, dI)) (ci := 0) (v := .int (((tw_sf u1 6 1)).1 6)) (C := RX5) (T := TX5) (N := 28) hx hb hts in_X5 hown hK hP 0 tw_g rfl 6 (by decide) (hts _ q1992) (fun _ h9 => h9) rfl dX5_coefficient_35 ?_
    refine lv_if_le (tgt := 43) hx hb dX5_coefficient_38 (by decide) (fun c12 => ?_) (fun c12 => ?_)
    · replace hF := it_t c12 hF
      refine lv_aload_n hx hb dX5_coefficient_43 rfl (lv_at hl 0 rfl) ?_
      refine lv_aload_n hx hb dX5_coefficient_44 rfl (lv_at hl 0 rfl) ?_
      refine lv_iload_n hx hb dX5_coefficient_45 rfl (lv_at hl 1 rfl) ?_
      obtain ⟨r13, u13, e13, hF⟩ := bnd_s hF
      refine tw_calli (va_runV (As := [.int p1]) (rest := [.ref m0]) ⟨hx, hb, hml, hown, hts⟩ (mt_works l dC dI cI cZ m0 ad H.size (tw_sf u1 6 1) n  p1 _ e13) (cwV 1 hts (lw_V q2332 q2334 qs86 q125 q2335) rfl rfl rfl (by decide +kernel) ⟨Nat.le_of_ble_eq_true rfl, Nat.le_of_ble_eq_true rfl⟩) (tw_preV hK hP hD _) rfl rfl hl.1 rfl (lv_room (Nat.le_of_ble_eq_true rfl)) dX5_coefficient_46 ⟨Nat.le_of_ble_eq_true rfl, Nat.le_of_ble_eq_true rfl⟩) hS hD hAA (fun rr uu H locs hw hP hD hS => ?_)
      obtain rfl : r13 = rr := (congrArg Prod.fst hw).symm
      obtain rfl : u13 = uu := (congrArg Prod.snd hw).symm
      refine va_put (D := (dC, dI)) (ci := 0) (v := .int r13) (ty := .int) (C := RX5) (T := TX5) (N := 28) hx hb hts in_X5 tyX5 tyX5_ok nmX5 hown hK hP hD hS 0 tw_g rfl 20 (by decide) (hts _ q2006) (fun _ h9 => h9) rfl (tyX5_ok 20 (by decide)) rfl rfl (Nat.le_of_ble_eq_true rfl) dX5_coefficient_49 (fun H locs hP hD hS => ?_)
      rw [tw_p20] at hP hD
      refine lv_aload_n hx hb dX5_coefficient_52 rfl (lv_at hl 0 rfl) ?_
      refine va_get (D := (dC, dI)) (ci := 0) (v := .ref (ad 23)) (C := RX5) (T := TX5) (N := 28) hx hb hts in_X5 hown hK hP 0 tw_g rfl 23 (by decide) (hts _ q2009) (fun _ h9 => h9) rfl dX5_coefficient_53 ?_
      refine lv_iload_n hx hb dX5_coefficient_56 rfl (lv_at hl 2 rfl) ?_
      obtain ⟨g14, hF⟩ := gd_s hF
      refine va_iald hx hb hK hP 12 0 tw_e23 rfl (inB_in g14) dX5_coefficient_57 ?_
      exact W.iret (v := (((tw_sf u13 20 r13)).2 23 (p2).toNatClampNeg)) hx hb hr (fun t ht hW => ⟨⟨(((tw_sf u13 20 r13)).2 23 (p2).toNatClampNeg), (tw_sf u13 20 r13), rfl, Option.some.inj hF, by rw [ht]; exact hP, va_K.moved hW.alike hK⟩, hS.F ht⟩) hS.2.2 dX5_coefficient_58
    · replace hF := it_f c12 hF
      refine lv_iconst (v := 0) hx hb dX5_coefficient_41 (by decide) ?_
      exact W.iret (v := 0) hx hb hr (fun t ht hW => ⟨⟨0, (tw_sf u1 6 1), rfl, Option.some.inj hF, by rw [ht]; exact hP, va_K.moved hW.alike hK⟩, hS.F ht⟩) hS.2.2 dX5_coefficient_42

def F_applied_1 (R : Nat → Tw → Int32 → Int32 → Int32 → Int32 → Int32 → Int32 → Int32 → Option (Int32 × Tw)) (n : Nat) (σ : Tw) (x1 : Int32) (x2 : Int32) (x3 : Int32) (x4 : Int32) (x5 : Int32) (x6 : Int32) (x7 : Int32) : Option (Int32 × Tw) := if x4 < x6 then bnd (F_mod σ x5) (fun r20 u20 => some (r20, u20)) else gd (inB x6 9) (gd (inB x3 8) (bnd (F_multiplies_xy n σ ) (fun r23 u23 => R 2 u23 x1 x2 x3 x4 (x5 + (((σ).2 23 (x6).toNatClampNeg) * ((σ).2 17 (x3).toNatClampNeg))) x6 0)))
def F_applied_2 (R : Nat → Tw → Int32 → Int32 → Int32 → Int32 → Int32 → Int32 → Int32 → Option (Int32 × Tw)) (n : Nat) (σ : Tw) (x1 : Int32) (x2 : Int32) (x3 : Int32) (x4 : Int32) (x5 : Int32) (x6 : Int32) (x7 : Int32) : Option (Int32 × Tw) := gd (inB 1 162) (if ((σ).2 0 (1 : Int32).toNatClampNeg) ≤ x7 then R 1 σ x1 x2 x3 x4 x5 (x6 + 1) x7 else gd (inB x7 8) (gd (inB x7 8) (R 2 (tw_sa σ 17 (x7).toNatClampNeg ((σ).2 18 (x7).toNatClampNeg)) x1 x2 x3 x4 x5 x6 (x7 + 1))))
def F_applied_r : Nat → Nat → Tw → Int32 → Int32 → Int32 → Int32 → Int32 → Int32 → Int32 → Option (Int32 × Tw)
  | 0 => fun _ _ _ _ _ _ _ _ _ => none
  | n + 1 => fun k => match k with | 1 => F_applied_1 (F_applied_r n) n | _ => F_applied_2 (F_applied_r n) n
def F_applied_0 (R : Nat → Tw → Int32 → Int32 → Int32 → Int32 → Int32 → Int32 → Int32 → Option (Int32 × Tw)) (n : Nat) (σ : Tw) (p1 : Int32) (p2 : Int32) (p3 : Int32) : Option (Int32 × Tw) := bnd (F_isChain σ p1) (fun r1 u1 => if r1 = 0 then if (((tw_sf u1 6 1)).1 6) ≤ 0 then bnd (F_works n (tw_sf u1 6 1) p1) (fun r4 u4 => bnd (F_laysUnit_x n u4 p2) (fun r5 u5 => R 1 u5 p1 p2 p3 r4 0 0 0)) else some (0, (tw_sf u1 6 1)) else bnd (F_isPlace u1 p2) (fun r6 u6 => if r6 = 0 then if (((tw_sf u6 6 1)).1 6) ≤ 0 then bnd (F_works n (tw_sf u6 6 1) p1) (fun r9 u9 => bnd (F_laysUnit_x n u9 p2) (fun r10 u10 => R 1 u10 p1 p2 p3 r9 0 0 0)) else some (0, (tw_sf u6 6 1)) else bnd (F_isPlace u6 p3) (fun r11 u11 => if r11 = 0 then if (((tw_sf u11 6 1)).1 6) ≤ 0 then bnd (F_works n (tw_sf u11 6 1) p1) (fun r14 u14 => bnd (F_laysUnit_x n u14 p2) (fun r15 u15 => R 1 u15 p1 p2 p3 r14 0 0 0)) else some (0, (tw_sf u11 6 1)) else if (((tw_sf u11 6 0)).1 6) ≤ 0 then bnd (F_works n (tw_sf u11 6 0) p1) (fun r17 u17 => bnd (F_laysUnit_x n u17 p2) (fun r18 u18 => R 1 u18 p1 p2 p3 r17 0 0 0)) else some (0, (tw_sf u11 6 0)))))
def F_applied (n : Nat) (σ : Tw) (p1 : Int32) (p2 : Int32) (p3 : Int32) : Option (Int32 × Tw) := F_applied_0 (F_applied_r n) n σ p1 p2 p3
set_option maxHeartbeats 4000000 in
set_option maxRecDepth 100000 in
theorem mt_applied (l : Launch) (dC : Nat → ClassId) (dI : Nat → Nat → Nat) (cI cZ : ClassId) (m0 : Nat) (ad : Nat → Nat) (sz : Nat) (σ : Tw) (n : Nat)  (p1 : Int32) (p2 : Int32) (p3 : Int32) (out : Int32 × Tw) (hF : F_applied n σ p1 p2 p3 = some out) : Met l yX5_applied (ws_ yX5_applied cX5_applied 8 (some .int)) ({ frames := 7, cells := 0, slots := 0, locals := 161 }) (va_Pc [.ref m0, .int p1, .int p2, .int p3] (tw_Pre dC dI cI cZ m0 ad sz σ)) (va_Qi (fun r u => (r, u) = out) (tw_B dC dI cI cZ m0 ad) (tw_A m0 ad sz)) 0 0 (tw_A m0 ad sz) := by
  refine Met.ofW (cc := cX5_applied) (maxL := 8) (ret := (some .int)) (by decide +kernel) rfl ?_
  intro p e s m args below meth c s₁ B hml hv
  obtain ⟨rfl, hsz, hP, hK, hD0⟩ := hv
  have hx := B.exec
  have hb := B.bytes
  have hr := B.returns
  have hts := atoms_spec (ws := (ws_ yX5_applied cX5_applied 8 (some .int))) B.pre
  have hts : ∀ w ∈ lw_all, w.before _ s = true := fun w h => hts w (List.mem_cons_of_mem _ h)
  have hown : s.vm.findClass RX5 = some m.cls := findClass_of_methodNamed B.named
  have hlocks := B.notSynchronized
  subst hsz
  have hD := tw_Ds (z := s.heap.size) hD0
  have hAA := fun z (h : s.heap.size ≤ z) => tw_Am (m0 := m0) (ad := ad) h
  generalize hAe : tw_A m0 ad s.heap.size = A at hD hAA ⊢
  have hS : va_S A s.heap s.heap [] := va_S.rf
  have hP : va_P (dC, dI) vwCl (tw_ws m0 ad cI cZ σ) s.heap := hP
  have hl := lv_entry ([.ref m0, .int p1, .int p2, .int p3]) (n := 8) (Nat.le_of_ble_eq_true rfl)
  rw [lg_entry_eq]
  generalize (lg_sl ([.ref m0, .int p1, .int p2, .int p3]) ++ List.replicate (8 - (lg_sl ([.ref m0, .int p1, .int p2, .int p3])).length) Slot.unset).toArray = ls at hl ⊢
  have hl : lv_has ls 8 [(0, .ref m0), (1, .int p1), (2, .int p2), (3, .int p3)] := hl
  have loop : ∀ n : Nat, (∀ (σ : Tw) (x1 x2 x3 x4 x5 x6 x7 : Int32), F_applied_r n 1 σ x1 x2 x3 x4 x5 x6 x7 = some out → ∀ (H : Heap) (locs : List Loc), va_P (dC, dI) vwCl (tw_ws m0 ad cI cZ σ) H → va_D A (tw_ws m0 ad cI cZ σ) → va_S A s.heap H locs → ∀ ls : Array Slot, lv_has ls 8 [(0, .ref m0), (1, .int x1), (2, .int x2), (3, .int x3), (4, .int x4), (5, .int x5), (6, .int x6)] → W p l e (headSpec (ws_ yX5_applied cX5_applied 8 (some .int)) ({ frames := 7, cells := 0, slots := 0, locals := 161 })).room s m ([.ref m0, .int p1, .int p2, .int p3] : List Value).toArray below meth c H locs 0 0 (MQ below (va_Qi (fun r u => (r, u) = out) (tw_B dC dI cI cZ m0 ad) A) ([.ref m0, .int p1, .int p2, .int p3] : List Value).toArray s 0 0 A) (F0 m 64 ls [])) ∧ (∀ (σ : Tw) (x1 x2 x3 x4 x5 x6 x7 : Int32), F_applied_r n 2 σ x1 x2 x3 x4 x5 x6 x7 = some out → ∀ (H : Heap) (locs : List Loc), va_P (dC, dI) vwCl (tw_ws m0 ad cI cZ σ) H → va_D A (tw_ws m0 ad cI cZ σ) → va_S A s.heap H locs → ∀ ls : Array Slot, lv_has ls 8 [(0, .ref m0), (1, .int x1), (2, .int x2), (3, .int x3), (4, .int x4), (5, .int x5), (6, .int x6), (7, .int x7)] → W p l e (headSpec (ws_ yX5_applied cX5_applied 8 (some .int)) ({ frames := 7, cells := 0, slots := 0, locals := 161 })).room s m ([.ref m0, .int p1, .int p2, .int p3] : List Value).toArray below meth c H locs 0 0 (MQ below (va_Qi (fun r u => (r, u) = out) (tw_B dC dI cI cZ m0 ad) A) ([.ref m0, .int p1, .int p2, .int p3] : List Value).toArray s 0 0 A) (F0 m 105 ls [])) := by
    intro n
    induction n with
    | zero => exact ⟨(fun _ _ _ _ _ _ _ _ h => nomatch h), (fun _ _ _ _ _ _ _ _ h => nomatch h)⟩
    | succ n ih =>
      obtain ⟨lp1, lp2⟩ := ih
      refine ⟨?_, ?_⟩
      · intro σ x1 x2 x3 x4 x5 x6 x7 hF H locs hP hD hS ls hl
        replace hF : F_applied_1 (F_applied_r n) n σ x1 x2 x3 x4 x5 x6 x7 = some out := hF
        unfold F_applied_1 at hF
        refine lv_iload hx hb dX5_applied_64 (lv_at hl 6 rfl) ?_
        refine lv_iload hx hb dX5_applied_66 (lv_at hl 4 rfl) ?_
        refine lv_icmp_gt (tgt := 142) hx hb dX5_applied_68 (by decide) (fun c19 => ?_) (fun c19 => ?_)
        · replace hF := it_t c19 hF
          refine lv_aload_n hx hb dX5_applied_142 rfl (lv_at hl 0 rfl) ?_
          refine lv_iload hx hb dX5_applied_143 (lv_at hl 5 rfl) ?_
          obtain ⟨r20, u20, e20, hF⟩ := bnd_s hF
          refine tw_calli (va_runV (As := [.int x5]) (rest := []) ⟨hx, hb, hml, hown, hts⟩ (mt_mod l dC dI cI cZ m0 ad H.size σ  x5 _ e20) (cwV 1 hts (lw_V q2253 q2255 qs70 q125 q2256) rfl rfl rfl (by decide +kernel) ⟨Nat.le_of_ble_eq_true rfl, Nat.le_of_ble_eq_true rfl⟩) (tw_preV hK hP hD _) rfl rfl hl.1 rfl (lv_room (Nat.le_of_ble_eq_true rfl)) dX5_applied_145 ⟨Nat.le_of_ble_eq_true rfl, Nat.le_of_ble_eq_true rfl⟩) hS hD hAA (fun rr uu H locs hw hP hD hS => ?_)
          obtain rfl : r20 = rr := (congrArg Prod.fst hw).symm
          obtain rfl : u20 = uu := (congrArg Prod.snd hw).symm
          exact W.iret (v := r20) hx hb hr (fun t ht hW => ⟨⟨r20, u20, rfl, Option.some.inj hF, by rw [ht]; exact hP, va_K.moved hW.alike hK⟩, hS.F ht⟩) hS.2.2 dX5_applied_148
        · replace hF := it_f c19 hF
          refine lv_iload hx hb dX5_applied_71 (lv_at hl 5 rfl) ?_
          refine lv_aload_n hx hb dX5_applied_73 rfl (lv_at hl 0 rfl) ?_
          refine va_get (D := (dC, dI)) (ci := 0) (v := .ref (ad 23)) (C := RX5) (T := TX5) (N := 28) hx hb hts in_X5 hown hK hP 0 tw_g rfl 23 (by decide) (hts _ q2009) (fun _ h9 => h9) rfl dX5_applied_74 ?_
          refine lv_iload hx hb dX5_applied_77 (lv_at hl 6 rfl) ?_
          obtain ⟨g21, hF⟩ := gd_s hF
          refine va_iald hx hb hK hP 12 0 tw_e23 rfl (inB_in g21) dX5_applied_79 ?_
          refine lv_aload_n hx hb dX5_applied_80 rfl (lv_at hl 0 rfl) ?_
          refine va_get (D := (dC, dI)) (ci := 0) (v := .ref (ad 17)) (C := RX5) (T := TX5) (N := 28) hx hb hts in_X5 hown hK hP 0 tw_g rfl 17 (by decide) (hts _ q2003) (fun _ h9 => h9) rfl dX5_applied_81 ?_
          refine lv_iload_n hx hb dX5_applied_84 rfl (lv_at hl 3 rfl) ?_
          obtain ⟨g22, hF⟩ := gd_s hF
          refine va_iald hx hb hK hP 7 0 tw_e17 rfl (inB_in g22) dX5_applied_85 ?_
          refine lv_imul hx hb dX5_applied_86 ?_
          refine lv_iadd hx hb dX5_applied_87 ?_
          refine lv_istore (lv' := [(5, .int (x5 + (((σ).2 23 (x6).toNatClampNeg) * ((σ).2 17 (x3).toNatClampNeg)))), (0, .ref m0), (1, .int x1), (2, .int x2), (3, .int x3), (4, .int x4), (6, .int x6)]) hx hb dX5_applied_88 hl (by decide) rfl (fun ls hl => ?_)
          refine lv_aload_n hx hb dX5_applied_90 rfl (lv_at hl 1 rfl) ?_
          refine lv_aload_n hx hb dX5_applied_91 rfl (lv_at hl 1 rfl) ?_
          refine va_get (D := (dC, dI)) (ci := 0) (v := .ref (ad 17)) (C := RX5) (T := TX5) (N := 28) hx hb hts in_X5 hown hK hP 0 tw_g rfl 17 (by decide) (hts _ q2003) (fun _ h9 => h9) rfl dX5_applied_92 ?_
          refine lv_aload_n hx hb dX5_applied_95 rfl (lv_at hl 1 rfl) ?_
          refine va_get (D := (dC, dI)) (ci := 0) (v := .ref (ad 18)) (C := RX5) (T := TX5) (N := 28) hx hb hts in_X5 hown hK hP 0 tw_g rfl 18 (by decide) (hts _ q2004) (fun _ h9 => h9) rfl dX5_applied_96 ?_
          obtain ⟨r23, u23, e23, hF⟩ := bnd_s hF
          refine tw_callv (va_runV (As := [.ref (ad 17), .ref (ad 18)]) (rest := []) ⟨hx, hb, hml, hown, hts⟩ (mt_multiplies_xy l dC dI cI cZ m0 ad H.size σ n   _ e23) (cwV 2 hts (lw_V q2249 q2251 qs69 q125 q2252) rfl rfl rfl (by decide +kernel) ⟨Nat.le_of_ble_eq_true rfl, Nat.le_of_ble_eq_true rfl⟩) (tw_preV hK hP hD _) rfl rfl hl.1 rfl (lv_room (Nat.le_of_ble_eq_true rfl)) dX5_applied_99 ⟨Nat.le_of_ble_eq_true rfl, Nat.le_of_ble_eq_true rfl⟩) hS hD hAA (fun uu H locs hw hP hD hS => ?_)
          obtain rfl : u23 = uu := (congrArg Prod.snd hw).symm
          refine lv_iconst (v := 0) hx hb dX5_applied_102 (by decide) ?_
          refine lv_istore (lv' := [(7, .int 0), (5, .int (x5 + (((σ).2 23 (x6).toNatClampNeg) * ((σ).2 17 (x3).toNatClampNeg)))), (0, .ref m0), (1, .int x1), (2, .int x2), (3, .int x3), (4, .int x4), (6, .int x6)]) hx hb dX5_applied_103 hl (by decide) rfl (fun ls hl => ?_)
          exact lp2 u23 x1 x2 x3 x4 (x5 + (((σ).2 23 (x6).toNatClampNeg) * ((σ).2 17 (x3).toNatClampNeg))) x6 0 hF _ _ hP hD hS ls (lv_sub hl [2, 3, 4, 5, 6, 1, 7, 0] rfl)
      · intro σ x1 x2 x3 x4 x5 x6 x7 hF H locs hP hD hS ls hl
        replace hF : F_applied_2 (F_applied_r n) n σ x1 x2 x3 x4 x5 x6 x7 = some out := hF
        unfold F_applied_2 at hF
        refine lv_iload hx hb dX5_applied_105 (lv_at hl 7 rfl) ?_
        refine lv_aload_n hx hb dX5_applied_107 rfl (lv_at hl 0 rfl) ?_
        refine va_get (D := (dC, dI)) (ci := 0) (v := .ref (ad 0)) (C := RX5) (T := TX5) (N := 28) hx hb hts in_X5 hown hK hP 0 tw_g rfl 0 (by decide) (hts _ q1986) (fun _ h9 => h9) rfl dX5_applied_108 ?_
        refine lv_iconst (v := 1) hx hb dX5_applied_111 (by decide) ?_
        obtain ⟨g24, hF⟩ := gd_s hF
        refine va_iald hx hb hK hP 1 0 tw_e0 rfl (inB_in g24) dX5_applied_112 ?_
        refine lv_icmp_ge (tgt := 136) hx hb dX5_applied_113 (by decide) (fun c25 => ?_) (fun c25 => ?_)
        · replace hF := it_t c25 hF
          refine lv_iinc (v := (x6 + 1)) (lv' := [(6, .int (x6 + 1)), (0, .ref m0), (1, .int x1), (2, .int x2), (3, .int x3), (4, .int x4), (5, .int x5), (7, .int x7)]) hx hb dX5_applied_136 hl (k := 6) rfl rfl (by decide) rfl (fun ls hl => ?_)
          refine lv_goto (tgt := 64) hx hb dX5_applied_139 (by decide) ?_
          exact lp1 σ x1 x2 x3 x4 x5 (x6 + 1) x7 hF _ _ hP hD hS ls (lv_sub hl [1, 2, 3, 4, 5, 6, 0] rfl)
        · replace hF := it_f c25 hF
          refine lv_aload_n hx hb dX5_applied_116 rfl (lv_at hl 0 rfl) ?_
          refine va_get (D := (dC, dI)) (ci := 0) (v := .ref (ad 17)) (C := RX5) (T := TX5) (N := 28) hx hb hts in_X5 hown hK hP 0 tw_g rfl 17 (by decide) (hts _ q2003) (fun _ h9 => h9) rfl dX5_applied_117 ?_
          refine lv_iload hx hb dX5_applied_120 (lv_at hl 7 rfl) ?_
          refine lv_aload_n hx hb dX5_applied_122 rfl (lv_at hl 0 rfl) ?_
          refine va_get (D := (dC, dI)) (ci := 0) (v := .ref (ad 18)) (C := RX5) (T := TX5) (N := 28) hx hb hts in_X5 hown hK hP 0 tw_g rfl 18 (by decide) (hts _ q2004) (fun _ h9 => h9) rfl dX5_applied_123 ?_
          refine lv_iload hx hb dX5_applied_126 (lv_at hl 7 rfl) ?_
          obtain ⟨g26, hF⟩ := gd_s hF
          refine va_iald hx hb hK hP 8 0 tw_e18 rfl (inB_in g26) dX5_applied_128 ?_
          obtain ⟨g27, hF⟩ := gd_s hF
          refine va_iast hx hb hK hP hD hS 7 0 tw_e17 rfl (x := ((σ).2 18 (x7).toNatClampNeg)) (inB_in g27) dX5_applied_129 (fun H locs hP hD hS => ?_)
          rw [tw_s17] at hP hD
          refine lv_iinc (v := (x7 + 1)) (lv' := [(7, .int (x7 + 1)), (0, .ref m0), (1, .int x1), (2, .int x2), (3, .int x3), (4, .int x4), (5, .int x5), (6, .int x6)]) hx hb dX5_applied_130 hl (k := 7) rfl rfl (by decide) rfl (fun ls hl => ?_)
          refine lv_goto (tgt := 105) hx hb dX5_applied_133 (by decide) ?_
          exact lp2 (tw_sa σ 17 (x7).toNatClampNeg ((σ).2 18 (x7).toNatClampNeg)) x1 x2 x3 x4 x5 x6 (x7 + 1) hF _ _ hP hD hS ls (lv_sub hl [1, 2, 3, 4, 5, 6, 7, 0] rfl)
  obtain ⟨lp1, lp2⟩ := loop n
  unfold F_applied F_applied_0 at hF
  refine lv_aload_n hx hb dX5_applied_0 rfl (lv_at hl 0 rfl) ?_
  refine lv_aload_n hx hb dX5_applied_1 rfl (lv_at hl 0 rfl) ?_
  refine lv_iload_n hx hb dX5_applied_2 rfl (lv_at hl 1 rfl) ?_
  obtain ⟨r1, u1, e1, hF⟩ := bnd_s hF
  refine tw_calli (va_runV (As := [.int p1]) (rest := [.ref m0]) ⟨hx, hb, hml, hown, hts⟩ (mt_isChain l dC dI cI cZ m0 ad s.heap.size σ  p1 _ e1) (cwV 1 hts (lw_V q2320 q2322 qs83 q125 q2323) rfl rfl rfl (by decide +kernel) ⟨Nat.le_of_ble_eq_true rfl, Nat.le_of_ble_eq_true rfl⟩) (tw_preV hK hP hD _) rfl rfl hl.1 rfl (lv_room (Nat.le_of_ble_eq_true rfl)) dX5_applied_3 ⟨Nat.le_of_ble_eq_true rfl, Nat.le_of_ble_eq_true rfl⟩) hS hD hAA (fun rr uu H locs hw hP hD hS => ?_)
  obtain rfl : r1 = rr := (congrArg Prod.fst hw).symm
  obtain rfl : u1 = uu := (congrArg Prod.snd hw).symm
  refine lv_if_eq (tgt := 29) hx hb dX5_applied_6 (by decide) (fun c2 => ?_) (fun c2 => ?_)
  · replace hF := it_t c2 hF
    refine lv_iconst (v := 1) hx hb dX5_applied_29 (by decide) ?_
    refine va_put (D := (dC, dI)) (ci := 0) (v := .int 1) (ty := .int) (C := RX5) (T := TX5) (N := 28) hx hb hts in_X5 tyX5 tyX5_ok nmX5 hown hK hP hD hS 0 tw_g rfl 6 (by decide) (hts _ q1992) (fun _ h9 => h9) rfl (tyX5_ok 6 (by decide)) rfl rfl (Nat.le_of_ble_eq_true rfl) dX5_applied_30 (fun H locs hP hD hS => ?_)
    rw [tw_p6] at hP hD
    refine lv_aload_n hx hb dX5_applied_33 rfl (lv_at hl 0 rfl) ?_
    refine va_get (D := (dC, dI)) (ci := 0) (v := .int (((tw_sf u1 6 1)).1 6)) (C := RX5) (T := TX5) (N := 28) hx hb hts in_X5 hown hK hP 0 tw_g rfl 6 (by decide) (hts _ q1992) (fun _ h9 => h9) rfl dX5_applied_34 ?_
    refine lv_if_le (tgt := 42) hx hb dX5_applied_37 (by decide) (fun c3 => ?_) (fun c3 => ?_)
    · replace hF := it_t c3 hF
      refine lv_aload_n hx hb dX5_applied_42 rfl (lv_at hl 0 rfl) ?_
      refine lv_iload_n hx hb dX5_applied_43 rfl (lv_at hl 1 rfl) ?_
      obtain ⟨r4, u4, e4, hF⟩ := bnd_s hF
      refine tw_calli (va_runV (As := [.int p1]) (rest := []) ⟨hx, hb, hml, hown, hts⟩ (mt_works l dC dI cI cZ m0 ad H.size (tw_sf u1 6 1) n  p1 _ e4) (cwV 1 hts (lw_V q2332 q2334 qs86 q125 q2335) rfl rfl rfl (by decide +kernel) ⟨Nat.le_of_ble_eq_true rfl, Nat.le_of_ble_eq_true rfl⟩) (tw_preV hK hP hD _) rfl rfl hl.1 rfl (lv_room (Nat.le_of_ble_eq_true rfl)) dX5_applied_44 ⟨Nat.le_of_ble_eq_true rfl, Nat.le_of_ble_eq_true rfl⟩) hS hD hAA (fun rr uu H locs hw hP hD hS => ?_)
      obtain rfl : r4 = rr := (congrArg Prod.fst hw).symm
      obtain rfl : u4 = uu := (congrArg Prod.snd hw).symm
      refine lv_istore (lv' := [(4, .int r4), (0, .ref m0), (1, .int p1), (2, .int p2), (3, .int p3)]) hx hb dX5_applied_47 hl (by decide) rfl (fun ls hl => ?_)
      refine lv_aload_n hx hb dX5_applied_49 rfl (lv_at hl 1 rfl) ?_
      refine lv_iload_n hx hb dX5_applied_50 rfl (lv_at hl 3 rfl) ?_
      refine lv_aload_n hx hb dX5_applied_51 rfl (lv_at hl 1 rfl) ?_
      refine va_get (D := (dC, dI)) (ci := 0) (v := .ref (ad 17)) (C := RX5) (T := TX5) (N := 28) hx hb hts in_X5 hown hK hP 0 tw_g rfl 17 (by decide) (hts _ q2003) (fun _ h9 => h9) rfl dX5_applied_52 ?_
      obtain ⟨r5, u5, e5, hF⟩ := bnd_s hF
      refine tw_callv (va_runV (As := [.int p2, .ref (ad 17)]) (rest := []) ⟨hx, hb, hml, hown, hts⟩ (mt_laysUnit_x l dC dI cI cZ m0 ad H.size u4 n  p2 _ e5) (cwV 2 hts (lw_V q2292 q2294 qs79 q125 q2295) rfl rfl rfl (by decide +kernel) ⟨Nat.le_of_ble_eq_true rfl, Nat.le_of_ble_eq_true rfl⟩) (tw_preV hK hP hD _) rfl rfl hl.1 rfl (lv_room (Nat.le_of_ble_eq_true rfl)) dX5_applied_55 ⟨Nat.le_of_ble_eq_true rfl, Nat.le_of_ble_eq_true rfl⟩) hS hD hAA (fun uu H locs hw hP hD hS => ?_)
      obtain rfl : u5 = uu := (congrArg Prod.snd hw).symm
      refine lv_iconst (v := 0) hx hb dX5_applied_58 (by decide) ?_
      refine lv_istore (lv' := [(5, .int 0), (4, .int r4), (0, .ref m0), (1, .int p1), (2, .int p2), (3, .int p3)]) hx hb dX5_applied_59 hl (by decide) rfl (fun ls hl => ?_)
      refine lv_iconst (v := 0) hx hb dX5_applied_61 (by decide) ?_
      refine lv_istore (lv' := [(6, .int 0), (5, .int 0), (4, .int r4), (0, .ref m0), (1, .int p1), (2, .int p2), (3, .int p3)]) hx hb dX5_applied_62 hl (by decide) rfl (fun ls hl => ?_)
      exact lp1 u5 p1 p2 p3 r4 0 0 0 hF _ _ hP hD hS ls (lv_sub hl [3, 4, 5, 6, 2, 1, 0] rfl)
    · replace hF := it_f c3 hF
      refine lv_iconst (v := 0) hx hb dX5_applied_40 (by decide) ?_
      exact W.iret (v := 0) hx hb hr (fun t ht hW => ⟨⟨0, (tw_sf u1 6 1), rfl, Option.some.inj hF, by rw [ht]; exact hP, va_K.moved hW.alike hK⟩, hS.F ht⟩) hS.2.2 dX5_applied_41
  · replace hF := it_f c2 hF
    refine lv_aload_n hx hb dX5_applied_9 rfl (lv_at hl 0 rfl) ?_
    refine lv_iload_n hx hb dX5_applied_10 rfl (lv_at hl 2 rfl) ?_
    obtain ⟨r6, u6, e6, hF⟩ := bnd_s hF
    refine tw_calli (va_runV (As := [.int p2]) (rest := [.ref m0]) ⟨hx, hb, hml, hown, hts⟩ (mt_isPlace l dC dI cI cZ m0 ad H.size u1  p2 _ e6) (cwV 1 hts (lw_V q2177 q2179 qs58 q125 q2180) rfl rfl rfl (by decide +kernel) ⟨Nat.le_of_ble_eq_true rfl, Nat.le_of_ble_eq_true rfl⟩) (tw_preV hK hP hD _) rfl rfl hl.1 rfl (lv_room (Nat.le_of_ble_eq_true rfl)) dX5_applied_11 ⟨Nat.le_of_ble_eq_true rfl, Nat.le_of_ble_eq_true rfl⟩) hS hD hAA (fun rr uu H locs hw hP hD hS => ?_)
    obtain rfl : r6 = rr := (congrArg Prod.fst hw).symm
    obtain rfl : u6 = uu := (congrArg Prod.snd hw).symm
    refine lv_if_eq (tgt := 29) hx hb dX5_applied_14 (by decide) (fun c7 => ?_) (fun c7 => ?_)
    · replace hF := it_t c7 hF
      refine lv_iconst (v := 1) hx hb dX5_applied_29 (by decide) ?_
      refine va_put (D := (dC, dI)) (ci := 0) (v := .int 1) (ty := .int) (C := RX5) (T := TX5) (N := 28) hx hb hts in_X5 tyX5 tyX5_ok nmX5 hown hK hP hD hS 0 tw_g rfl 6 (by decide) (hts _ q1992) (fun _ h9 => h9) rfl (tyX5_ok 6 (by decide)) rfl rfl (Nat.le_of_ble_eq_true rfl) dX5_applied_30 (fun H locs hP hD hS => ?_)
      rw [tw_p6] at hP hD
      refine lv_aload_n hx hb dX5_applied_33 rfl (lv_at hl 0 rfl) ?_
      refine va_get (D := (dC, dI)) (ci := 0) (v := .int (((tw_sf u6 6 1)).1 6)) (C := RX5) (T := TX5) (N := 28) hx hb hts in_X5 hown hK hP 0 tw_g rfl 6 (by decide) (hts _ q1992) (fun _ h9 => h9) rfl dX5_applied_34 ?_
      refine lv_if_le (tgt := 42) hx hb dX5_applied_37 (by decide) (fun c8 => ?_) (fun c8 => ?_)
      · replace hF := it_t c8 hF
        refine lv_aload_n hx hb dX5_applied_42 rfl (lv_at hl 0 rfl) ?_
        refine lv_iload_n hx hb dX5_applied_43 rfl (lv_at hl 1 rfl) ?_
        obtain ⟨r9, u9, e9, hF⟩ := bnd_s hF
        refine tw_calli (va_runV (As := [.int p1]) (rest := []) ⟨hx, hb, hml, hown, hts⟩ (mt_works l dC dI cI cZ m0 ad H.size (tw_sf u6 6 1) n  p1 _ e9) (cwV 1 hts (lw_V q2332 q2334 qs86 q125 q2335) rfl rfl rfl (by decide +kernel) ⟨Nat.le_of_ble_eq_true rfl, Nat.le_of_ble_eq_true rfl⟩) (tw_preV hK hP hD _) rfl rfl hl.1 rfl (lv_room (Nat.le_of_ble_eq_true rfl)) dX5_applied_44 ⟨Nat.le_of_ble_eq_true rfl, Nat.le_of_ble_eq_true rfl⟩) hS hD hAA (fun rr uu H locs hw hP hD hS => ?_)
        obtain rfl : r9 = rr := (congrArg Prod.fst hw).symm
        obtain rfl : u9 = uu := (congrArg Prod.snd hw).symm
        refine lv_istore (lv' := [(4, .int r9), (0, .ref m0), (1, .int p1), (2, .int p2), (3, .int p3)]) hx hb dX5_applied_47 hl (by decide) rfl (fun ls hl => ?_)
        refine lv_aload_n hx hb dX5_applied_49 rfl (lv_at hl 1 rfl) ?_
        refine lv_iload_n hx hb dX5_applied_50 rfl (lv_at hl 3 rfl) ?_
        refine lv_aload_n hx hb dX5_applied_51 rfl (lv_at hl 1 rfl) ?_
        refine va_get (D := (dC, dI)) (ci := 0) (v := .ref (ad 17)) (C := RX5) (T := TX5) (N := 28) hx hb hts in_X5 hown hK hP 0 tw_g rfl 17 (by decide) (hts _ q2003) (fun _ h9 => h9) rfl dX5_applied_52 ?_
        obtain ⟨r10, u10, e10, hF⟩ := bnd_s hF
        refine tw_callv (va_runV (As := [.int p2, .ref (ad 17)]) (rest := []) ⟨hx, hb, hml, hown, hts⟩ (mt_laysUnit_x l dC dI cI cZ m0 ad H.size u9 n  p2 _ e10) (cwV 2 hts (lw_V q2292 q2294 qs79 q125 q2295) rfl rfl rfl (by decide +kernel) ⟨Nat.le_of_ble_eq_true rfl, Nat.le_of_ble_eq_true rfl⟩) (tw_preV hK hP hD _) rfl rfl hl.1 rfl (lv_room (Nat.le_of_ble_eq_true rfl)) dX5_applied_55 ⟨Nat.le_of_ble_eq_true rfl, Nat.le_of_ble_eq_true rfl⟩) hS hD hAA (fun uu H locs hw hP hD hS => ?_)
        obtain rfl : u10 = uu := (congrArg Prod.snd hw).symm
        refine lv_iconst (v := 0) hx hb dX5_applied_58 (by decide) ?_
        refine lv_istore (lv' := [(5, .int 0), (4, .int r9), (0, .ref m0), (1, .int p1), (2, .int p2), (3, .int p3)]) hx hb dX5_applied_59 hl (by decide) rfl (fun ls hl => ?_)
        refine lv_iconst (v := 0) hx hb dX5_applied_61 (by decide) ?_
        refine lv_istore (lv' := [(6, .int 0), (5, .int 0), (4, .int r9), (0, .ref m0), (1, .int p1), (2, .int p2), (3, .int p3)]) hx hb dX5_applied_62 hl (by decide) rfl (fun ls hl => ?_)
        exact lp1 u10 p1 p2 p3 r9 0 0 0 hF _ _ hP hD hS ls (lv_sub hl [3, 4, 5, 6, 2, 1, 0] rfl)
      · replace hF := it_f c8 hF
        refine lv_iconst (v := 0) hx hb dX5_applied_40 (by decide) ?_
        exact W.iret (v := 0) hx hb hr (fun t ht hW => ⟨⟨0, (tw_sf u6 6 1), rfl, Option.some.inj hF, by rw [ht]; exact hP, va_K.moved hW.alike hK⟩, hS.F ht⟩) hS.2.2 dX5_applied_41
    · replace hF := it_f c7 hF
      refine lv_aload_n hx hb dX5_applied_17 rfl (lv_at hl 0 rfl) ?_
      refine lv_iload_n hx hb dX5_applied_18 rfl (lv_at hl 3 rfl) ?_
      obtain ⟨r11, u11, e11, hF⟩ := bnd_s hF
      refine tw_calli (va_runV (As := [.int p3]) (rest := [.ref m0]) ⟨hx, hb, hml, hown, hts⟩ (mt_isPlace l dC dI cI cZ m0 ad H.size u6  p3 _ e11) (cwV 1 hts (lw_V q2177 q2179 qs58 q125 q2180) rfl rfl rfl (by decide +kernel) ⟨Nat.le_of_ble_eq_true rfl, Nat.le_of_ble_eq_true rfl⟩) (tw_preV hK hP hD _) rfl rfl hl.1 rfl (lv_room (Nat.le_of_ble_eq_true rfl)) dX5_applied_19 ⟨Nat.le_of_ble_eq_true rfl, Nat.le_of_ble_eq_true rfl⟩) hS hD hAA (fun rr uu H locs hw hP hD hS => ?_)
      obtain rfl : r11 = rr := (congrArg Prod.fst hw).symm
      obtain rfl : u11 = uu := (congrArg Prod.snd hw).symm
      refine lv_if_eq (tgt := 29) hx hb dX5_applied_22 (by decide) (fun c12 => ?_) (fun c12 => ?_)
      · replace hF := it_t c12 hF
        refine lv_iconst (v := 1) hx hb dX5_applied_29 (by decide) ?_
        refine va_put (D := (dC, dI)) (ci := 0) (v := .int 1) (ty := .int) (C := RX5) (T := TX5) (N := 28) hx hb hts in_X5 tyX5 tyX5_ok nmX5 hown hK hP hD hS 0 tw_g rfl 6 (by decide) (hts _ q1992) (fun _ h9 => h9) rfl (tyX5_ok 6 (by decide)) rfl rfl (Nat.le_of_ble_eq_true rfl) dX5_applied_30 (fun H locs hP hD hS => ?_)
        rw [tw_p6] at hP hD
        refine lv_aload_n hx hb dX5_applied_33 rfl (lv_at hl 0 rfl) ?_
        refine va_get (D := (dC, dI)) (ci := 0) (v := .int (((tw_sf u11 6 1)).1 6)) (C := RX5) (T := TX5) (N := 28) hx hb hts in_X5 hown hK hP 0 tw_g rfl 6 (by decide) (hts _ q1992) (fun _ h9 => h9) rfl dX5_applied_34 ?_
        refine lv_if_le (tgt := 42) hx hb dX5_applied_37 (by decide) (fun c13 => ?_) (fun c13 => ?_)
        · replace hF := it_t c13 hF
          refine lv_aload_n hx hb dX5_applied_42 rfl (lv_at hl 0 rfl) ?_
          refine lv_iload_n hx hb dX5_applied_43 rfl (lv_at hl 1 rfl) ?_
          obtain ⟨r14, u14, e14, hF⟩ := bnd_s hF
          refine tw_calli (va_runV (As := [.int p1]) (rest := []) ⟨hx, hb, hml, hown, hts⟩ (mt_works l dC dI cI cZ m0 ad H.size (tw_sf u11 6 1) n  p1 _ e14) (cwV 1 hts (lw_V q2332 q2334 qs86 q125 q2335) rfl rfl rfl (by decide +kernel) ⟨Nat.le_of_ble_eq_true rfl, Nat.le_of_ble_eq_true rfl⟩) (tw_preV hK hP hD _) rfl rfl hl.1 rfl (lv_room (Nat.le_of_ble_eq_true rfl)) dX5_applied_44 ⟨Nat.le_of_ble_eq_true rfl, Nat.le_of_ble_eq_true rfl⟩) hS hD hAA (fun rr uu H locs hw hP hD hS => ?_)
          obtain rfl : r14 = rr := (congrArg Prod.fst hw).symm
          obtain rfl : u14 = uu := (congrArg Prod.snd hw).symm
          refine lv_istore (lv' := [(4, .int r14), (0, .ref m0), (1, .int p1), (2, .int p2), (3, .int p3)]) hx hb dX5_applied_47 hl (by decide) rfl (fun ls hl => ?_)
          refine lv_aload_n hx hb dX5_applied_49 rfl (lv_at hl 1 rfl) ?_
          refine lv_iload_n hx hb dX5_applied_50 rfl (lv_at hl 3 rfl) ?_
          refine lv_aload_n hx hb dX5_applied_51 rfl (lv_at hl 1 rfl) ?_
          refine va_get (D := (dC, dI)) (ci := 0) (v := .ref (ad 17)) (C := RX5) (T := TX5) (N := 28) hx hb hts in_X5 hown hK hP 0 tw_g rfl 17 (by decide) (hts _ q2003) (fun _ h9 => h9) rfl dX5_applied_52 ?_
          obtain ⟨r15, u15, e15, hF⟩ := bnd_s hF
          refine tw_callv (va_runV (As := [.int p2, .ref (ad 17)]) (rest := []) ⟨hx, hb, hml, hown, hts⟩ (mt_laysUnit_x l dC dI cI cZ m0 ad H.size u14 n  p2 _ e15) (cwV 2 hts (lw_V q2292 q2294 qs79 q125 q2295) rfl rfl rfl (by decide +kernel) ⟨Nat.le_of_ble_eq_true rfl, Nat.le_of_ble_eq_true rfl⟩) (tw_preV hK hP hD _) rfl rfl hl.1 rfl (lv_room (Nat.le_of_ble_eq_true rfl)) dX5_applied_55 ⟨Nat.le_of_ble_eq_true rfl, Nat.le_of_ble_eq_true rfl⟩) hS hD hAA (fun uu H locs hw hP hD hS => ?_)
          obtain rfl : u15 = uu := (congrArg Prod.snd hw).symm
          refine lv_iconst (v := 0) hx hb dX5_applied_58 (by decide) ?_
          refine lv_istore (lv' := [(5, .int 0), (4, .int r14), (0, .ref m0), (1, .int p1), (2, .int p2), (3, .int p3)]) hx hb dX5_applied_59 hl (by decide) rfl (fun ls hl => ?_)
          refine lv_iconst (v := 0) hx hb dX5_applied_61 (by decide) ?_
          refine lv_istore (lv' := [(6, .int 0), (5, .int 0), (4, .int r14), (0, .ref m0), (1, .int p1), (2, .int p2), (3, .int p3)]) hx hb dX5_applied_62 hl (by decide) rfl (fun ls hl => ?_)
          exact lp1 u15 p1 p2 p3 r14 0 0 0 hF _ _ hP hD hS ls (lv_sub hl [3, 4, 5, 6, 2, 1, 0] rfl)
        · replace hF := it_f c13 hF
          refine lv_iconst (v := 0) hx hb dX5_applied_40 (by decide) ?_
          exact W.iret (v := 0) hx hb hr (fun t ht hW => ⟨⟨0, (tw_sf u11 6 1), rfl, Option.some.inj hF, by rw [ht]; exact hP, va_K.moved hW.alike hK⟩, hS.F ht⟩) hS.2.2 dX5_applied_41
      · replace hF := it_f c12 hF
        refine lv_iconst (v := 0) hx hb dX5_applied_25 (by decide) ?_
        refine lv_goto (tgt := 30) hx hb dX5_applied_26 (by decide) ?_
        refine va_put (D := (dC, dI)) (ci := 0) (v := .int 0) (ty := .int) (C := RX5) (T := TX5) (N := 28) hx hb hts in_X5 tyX5 tyX5_ok nmX5 hown hK hP hD hS 0 tw_g rfl 6 (by decide) (hts _ q1992) (fun _ h9 => h9) rfl (tyX5_ok 6 (by decide)) rfl rfl (Nat.le_of_ble_eq_true rfl) dX5_applied_30 (fun H locs hP hD hS => ?_)
        rw [tw_p6] at hP hD
        refine lv_aload_n hx hb dX5_applied_33 rfl (lv_at hl 0 rfl) ?_
        refine va_get (D := (dC, dI)) (ci := 0) (v := .int (((tw_sf u11 6 0)).1 6)) (C := RX5) (T := TX5) (N := 28) hx hb hts in_X5 hown hK hP 0 tw_g rfl 6 (by decide) (hts _ q1992) (fun _ h9 => h9) rfl dX5_applied_34 ?_
        refine lv_if_le (tgt := 42) hx hb dX5_applied_37 (by decide) (fun c16 => ?_) (fun c16 => ?_)
        · replace hF := it_t c16 hF
          refine lv_aload_n hx hb dX5_applied_42 rfl (lv_at hl 0 rfl) ?_
          refine lv_iload_n hx hb dX5_applied_43 rfl (lv_at hl 1 rfl) ?_
          obtain ⟨r17, u17, e17, hF⟩ := bnd_s hF
          refine tw_calli (va_runV (As := [.int p1]) (rest := []) ⟨hx, hb, hml, hown, hts⟩ (mt_works l dC dI cI cZ m0 ad H.size (tw_sf u11 6 0) n  p1 _ e17) (cwV 1 hts (lw_V q2332 q2334 qs86 q125 q2335) rfl rfl rfl (by decide +kernel) ⟨Nat.le_of_ble_eq_true rfl, Nat.le_of_ble_eq_true rfl⟩) (tw_preV hK hP hD _) rfl rfl hl.1 rfl (lv_room (Nat.le_of_ble_eq_true rfl)) dX5_applied_44 ⟨Nat.le_of_ble_eq_true rfl, Nat.le_of_ble_eq_true rfl⟩) hS hD hAA (fun rr uu H locs hw hP hD hS => ?_)
          obtain rfl : r17 = rr := (congrArg Prod.fst hw).symm
          obtain rfl : u17 = uu := (congrArg Prod.snd hw).symm
          refine lv_istore (lv' := [(4, .int r17), (0, .ref m0), (1, .int p1), (2, .int p2), (3, .int p3)]) hx hb dX5_applied_47 hl (by decide) rfl (fun ls hl => ?_)
          refine lv_aload_n hx hb dX5_applied_49 rfl (lv_at hl 1 rfl) ?_
          refine lv_iload_n hx hb dX5_applied_50 rfl (lv_at hl 3 rfl) ?_
          refine lv_aload_n hx hb dX5_applied_51 rfl (lv_at hl 1 rfl) ?_
          refine va_get (D := (dC, dI)) (ci := 0) (v := .ref (ad 17)) (C := RX5) (T := TX5) (N := 28) hx hb hts in_X5 hown hK hP 0 tw_g rfl 17 (by decide) (hts _ q2003) (fun _ h9 => h9) rfl dX5_applied_52 ?_
          obtain ⟨r18, u18, e18, hF⟩ := bnd_s hF
          refine tw_callv (va_runV (As := [.int p2, .ref (ad 17)]) (rest := []) ⟨hx, hb, hml, hown, hts⟩ (mt_laysUnit_x l dC dI cI cZ m0 ad H.size u17 n  p2 _ e18) (cwV 2 hts (lw_V q2292 q2294 qs79 q125 q2295) rfl rfl rfl (by decide +kernel) ⟨Nat.le_of_ble_eq_true rfl, Nat.le_of_ble_eq_true rfl⟩) (tw_preV hK hP hD _) rfl rfl hl.1 rfl (lv_room (Nat.le_of_ble_eq_true rfl)) dX5_applied_55 ⟨Nat.le_of_ble_eq_true rfl, Nat.le_of_ble_eq_true rfl⟩) hS hD hAA (fun uu H locs hw hP hD hS => ?_)
          obtain rfl : u18 = uu := (congrArg Prod.snd hw).symm
          refine lv_iconst (v := 0) hx hb dX5_applied_58 (by decide) ?_
          refine lv_istore (lv' := [(5, .int 0), (4, .int r17), (0, .ref m0), (1, .int p1), (2, .int p2), (3, .int p3)]) hx hb dX5_applied_59 hl (by decide) rfl (fun ls hl => ?_)
          refine lv_iconst (v := 0) hx hb dX5_applied_61 (by decide) ?_
          refine lv_istore (lv' := [(6, .int 0), (5, .int 0), (4, .int r17), (0, .ref m0), (1, .int p1), (2, .int p2), (3, .int p3)]) hx hb dX5_applied_62 hl (by decide) rfl (fun ls hl => ?_)
          exact lp1 u18 p1 p2 p3 r17 0 0 0 hF _ _ hP hD hS ls (lv_sub hl [3, 4, 5, 6, 2, 1, 0] rfl)
        · replace hF := it_f c16 hF
          refine lv_iconst (v := 0) hx hb dX5_applied_40 (by decide) ?_
          exact W.iret (v := 0) hx hb hr (fun t ht hW => ⟨⟨0, (tw_sf u11 6 0), rfl, Option.some.inj hF, by rw [ht]; exact hP, va_K.moved hW.alike hK⟩, hS.F ht⟩) hS.2.2 dX5_applied_41

def F_ended_1 (R : Nat → Tw → Int32 → Int32 → Int32 → Option (Int32 × Tw)) (n : Nat) (σ : Tw) (x1 : Int32) (x2 : Int32) (x3 : Int32) : Option (Int32 × Tw) := gd (inB 6 162) (if ((σ).2 0 (6 : Int32).toNatClampNeg) ≤ x3 then some (x2, σ) else gd (inB (89 + x3) 162) (if ((σ).2 0 ((89 + x3)).toNatClampNeg) = x1 then R 1 σ x1 (x2 + 1) (x3 + 1) else R 1 σ x1 (x2 + 0) (x3 + 1)))
def F_ended_r : Nat → Nat → Tw → Int32 → Int32 → Int32 → Option (Int32 × Tw)
  | 0 => fun _ _ _ _ _ => none
  | n + 1 => fun k => match k with  | _ => F_ended_1 (F_ended_r n) n
def F_ended_0 (R : Nat → Tw → Int32 → Int32 → Int32 → Option (Int32 × Tw)) (n : Nat) (σ : Tw) (p1 : Int32) : Option (Int32 × Tw) := bnd (F_isIn σ p1 0 3) (fun r1 u1 => if r1 = 0 then if (((tw_sf u1 6 1)).1 6) ≤ 0 then R 1 (tw_sf u1 6 1) p1 0 0 else some (0, (tw_sf u1 6 1)) else if (((tw_sf u1 6 0)).1 6) ≤ 0 then R 1 (tw_sf u1 6 0) p1 0 0 else some (0, (tw_sf u1 6 0)))
def F_ended (n : Nat) (σ : Tw) (p1 : Int32) : Option (Int32 × Tw) := F_ended_0 (F_ended_r n) n σ p1
set_option maxHeartbeats 4000000 in
set_option maxRecDepth 100000 in
theorem mt_ended (l : Launch) (dC : Nat → ClassId) (dI : Nat → Nat → Nat) (cI cZ : ClassId) (m0 : Nat) (ad : Nat → Nat) (sz : Nat) (σ : Tw) (n : Nat)  (p1 : Int32) (out : Int32 × Tw) (hF : F_ended n σ p1 = some out) : Met l yX5_ended (ws_ yX5_ended cX5_ended 4 (some .int)) ({ frames := 1, cells := 0, slots := 0, locals := 22 }) (va_Pc [.ref m0, .int p1] (tw_Pre dC dI cI cZ m0 ad sz σ)) (va_Qi (fun r u => (r, u) = out) (tw_B dC dI cI cZ m0 ad) (tw_A m0 ad sz)) 0 0 (tw_A m0 ad sz) := by
  refine Met.ofW (cc := cX5_ended) (maxL := 4) (ret := (some .int)) (by decide +kernel) rfl ?_
  intro p e s m args below meth c s₁ B hml hv
  obtain ⟨rfl, hsz, hP, hK, hD0⟩ := hv
  have hx := B.exec
  have hb := B.bytes
  have hr := B.returns
  have hts := atoms_spec (ws := (ws_ yX5_ended cX5_ended 4 (some .int))) B.pre
  have hts : ∀ w ∈ lw_all, w.before _ s = true := fun w h => hts w (List.mem_cons_of_mem _ h)
  have hown : s.vm.findClass RX5 = some m.cls := findClass_of_methodNamed B.named
  have hlocks := B.notSynchronized
  subst hsz
  have hD := tw_Ds (z := s.heap.size) hD0
  have hAA := fun z (h : s.heap.size ≤ z) => tw_Am (m0 := m0) (ad := ad) h
  generalize hAe : tw_A m0 ad s.heap.size = A at hD hAA ⊢
  have hS : va_S A s.heap s.heap [] := va_S.rf
  have hP : va_P (dC, dI) vwCl (tw_ws m0 ad cI cZ σ) s.heap := hP
  have hl := lv_entry ([.ref m0, .int p1]) (n := 4) (Nat.le_of_ble_eq_true rfl)
  rw [lg_entry_eq]
  generalize (lg_sl ([.ref m0, .int p1]) ++ List.replicate (4 - (lg_sl ([.ref m0, .int p1])).length) Slot.unset).toArray = ls at hl ⊢
  have hl : lv_has ls 4 [(0, .ref m0), (1, .int p1)] := hl
  have loop : ∀ n : Nat, (∀ (σ : Tw) (x1 x2 x3 : Int32), F_ended_r n 1 σ x1 x2 x3 = some out → ∀ (H : Heap) (locs : List Loc), va_P (dC, dI) vwCl (tw_ws m0 ad cI cZ σ) H → va_D A (tw_ws m0 ad cI cZ σ) → va_S A s.heap H locs → ∀ ls : Array Slot, lv_has ls 4 [(0, .ref m0), (1, .int x1), (2, .int x2), (3, .int x3)] → W p l e (headSpec (ws_ yX5_ended cX5_ended 4 (some .int)) ({ frames := 1, cells := 0, slots := 0, locals := 22 })).room s m ([.ref m0, .int p1] : List Value).toArray below meth c H locs 0 0 (MQ below (va_Qi (fun r u => (r, u) = out) (tw_B dC dI cI cZ m0 ad) A) ([.ref m0, .int p1] : List Value).toArray s 0 0 A) (F0 m 31 ls [])) := by
    intro n
    induction n with
    | zero => exact (fun _ _ _ _ h => nomatch h)
    | succ n ih =>
      have lp1 := ih
      intro σ x1 x2 x3 hF H locs hP hD hS ls hl
      replace hF : F_ended_1 (F_ended_r n) n σ x1 x2 x3 = some out := hF
      unfold F_ended_1 at hF
      refine lv_iload_n hx hb dX5_ended_31 rfl (lv_at hl 3 rfl) ?_
      refine lv_aload_n hx hb dX5_ended_32 rfl (lv_at hl 0 rfl) ?_
      refine va_get (D := (dC, dI)) (ci := 0) (v := .ref (ad 0)) (C := RX5) (T := TX5) (N := 28) hx hb hts in_X5 hown hK hP 0 tw_g rfl 0 (by decide) (hts _ q1986) (fun _ h9 => h9) rfl dX5_ended_33 ?_
      refine lv_bipush (v := 6) hx hb dX5_ended_36 (by decide) ?_
      obtain ⟨g5, hF⟩ := gd_s hF
      refine va_iald hx hb hK hP 1 0 tw_e0 rfl (inB_in g5) dX5_ended_38 ?_
      refine lv_icmp_ge (tgt := 69) hx hb dX5_ended_39 (by decide) (fun c6 => ?_) (fun c6 => ?_)
      · replace hF := it_t c6 hF
        refine lv_iload_n hx hb dX5_ended_69 rfl (lv_at hl 2 rfl) ?_
        exact W.iret (v := x2) hx hb hr (fun t ht hW => ⟨⟨x2, σ, rfl, Option.some.inj hF, by rw [ht]; exact hP, va_K.moved hW.alike hK⟩, hS.F ht⟩) hS.2.2 dX5_ended_70
      · replace hF := it_f c6 hF
        refine lv_iload_n hx hb dX5_ended_42 rfl (lv_at hl 2 rfl) ?_
        refine lv_aload_n hx hb dX5_ended_43 rfl (lv_at hl 0 rfl) ?_
        refine va_get (D := (dC, dI)) (ci := 0) (v := .ref (ad 0)) (C := RX5) (T := TX5) (N := 28) hx hb hts in_X5 hown hK hP 0 tw_g rfl 0 (by decide) (hts _ q1986) (fun _ h9 => h9) rfl dX5_ended_44 ?_
        refine lv_bipush (v := 89) hx hb dX5_ended_47 (by decide) ?_
        refine lv_iload_n hx hb dX5_ended_49 rfl (lv_at hl 3 rfl) ?_
        refine lv_iadd hx hb dX5_ended_50 ?_
        obtain ⟨g7, hF⟩ := gd_s hF
        refine va_iald hx hb hK hP 1 0 tw_e0 rfl (inB_in g7) dX5_ended_51 ?_
        refine lv_iload_n hx hb dX5_ended_52 rfl (lv_at hl 1 rfl) ?_
        refine lv_icmp_ne (tgt := 60) hx hb dX5_ended_53 (by decide) (fun c8 => ?_) (fun c8 => ?_)
        · replace hF := it_f c8 hF
          refine lv_iconst (v := 0) hx hb dX5_ended_60 (by decide) ?_
          refine lv_iadd hx hb dX5_ended_61 ?_
          refine lv_istore_n (lv' := [(2, .int (x2 + 0)), (0, .ref m0), (1, .int x1), (3, .int x3)]) hx hb dX5_ended_62 rfl hl (by decide) rfl (fun ls hl => ?_)
          refine lv_iinc (v := (x3 + 1)) (lv' := [(3, .int (x3 + 1)), (2, .int (x2 + 0)), (0, .ref m0), (1, .int x1)]) hx hb dX5_ended_63 hl (k := 3) rfl rfl (by decide) rfl (fun ls hl => ?_)
          refine lv_goto (tgt := 31) hx hb dX5_ended_66 (by decide) ?_
          exact lp1 σ x1 (x2 + 0) (x3 + 1) hF _ _ hP hD hS ls (lv_sub hl [2, 3, 1, 0] rfl)
        · replace hF := it_t c8 hF
          refine lv_iconst (v := 1) hx hb dX5_ended_56 (by decide) ?_
          refine lv_goto (tgt := 61) hx hb dX5_ended_57 (by decide) ?_
          refine lv_iadd hx hb dX5_ended_61 ?_
          refine lv_istore_n (lv' := [(2, .int (x2 + 1)), (0, .ref m0), (1, .int x1), (3, .int x3)]) hx hb dX5_ended_62 rfl hl (by decide) rfl (fun ls hl => ?_)
          refine lv_iinc (v := (x3 + 1)) (lv' := [(3, .int (x3 + 1)), (2, .int (x2 + 1)), (0, .ref m0), (1, .int x1)]) hx hb dX5_ended_63 hl (k := 3) rfl rfl (by decide) rfl (fun ls hl => ?_)
          refine lv_goto (tgt := 31) hx hb dX5_ended_66 (by decide) ?_
          exact lp1 σ x1 (x2 + 1) (x3 + 1) hF _ _ hP hD hS ls (lv_sub hl [2, 3, 1, 0] rfl)
  have lp1 := loop n
  unfold F_ended F_ended_0 at hF
  refine lv_aload_n hx hb dX5_ended_0 rfl (lv_at hl 0 rfl) ?_
  refine lv_iload_n hx hb dX5_ended_1 rfl (lv_at hl 1 rfl) ?_
  refine lv_iconst (v := 0) hx hb dX5_ended_2 (by decide) ?_
  refine lv_iconst (v := 3) hx hb dX5_ended_3 (by decide) ?_
  obtain ⟨r1, u1, e1, hF⟩ := bnd_s hF
  refine tw_calli (va_runS (As := [.int p1, .int 0, .int 3]) (rest := [.ref m0]) ⟨hx, hb, hml, hown, hts⟩ (mt_isIn l dC dI cI cZ m0 ad s.heap.size σ  p1 0 3 _ e1) (va_cwS 3 hts (lw_S q2084 q2085 q125 q2086) rfl rfl rfl (by decide +kernel) ⟨Nat.le_of_ble_eq_true rfl, Nat.le_of_ble_eq_true rfl⟩) (tw_preS hK hP hD _) rfl rfl hl.1 rfl (lv_room (Nat.le_of_ble_eq_true rfl)) dX5_ended_4 ⟨Nat.le_of_ble_eq_true rfl, Nat.le_of_ble_eq_true rfl⟩) hS hD hAA (fun rr uu H locs hw hP hD hS => ?_)
  obtain rfl : r1 = rr := (congrArg Prod.fst hw).symm
  obtain rfl : u1 = uu := (congrArg Prod.snd hw).symm
  refine lv_if_eq (tgt := 14) hx hb dX5_ended_7 (by decide) (fun c2 => ?_) (fun c2 => ?_)
  · replace hF := it_t c2 hF
    refine lv_iconst (v := 1) hx hb dX5_ended_14 (by decide) ?_
    refine va_put (D := (dC, dI)) (ci := 0) (v := .int 1) (ty := .int) (C := RX5) (T := TX5) (N := 28) hx hb hts in_X5 tyX5 tyX5_ok nmX5 hown hK hP hD hS 0 tw_g rfl 6 (by decide) (hts _ q1992) (fun _ h9 => h9) rfl (tyX5_ok 6 (by decide)) rfl rfl (Nat.le_of_ble_eq_true rfl) dX5_ended_15 (fun H locs hP hD hS => ?_)
    rw [tw_p6] at hP hD
    refine lv_aload_n hx hb dX5_ended_18 rfl (lv_at hl 0 rfl) ?_
    refine va_get (D := (dC, dI)) (ci := 0) (v := .int (((tw_sf u1 6 1)).1 6)) (C := RX5) (T := TX5) (N := 28) hx hb hts in_X5 hown hK hP 0 tw_g rfl 6 (by decide) (hts _ q1992) (fun _ h9 => h9) rfl dX5_ended_19 ?_
    refine lv_if_le (tgt := 27) hx hb dX5_ended_22 (by decide) (fun c3 => ?_) (fun c3 => ?_)
    · replace hF := it_t c3 hF
      refine lv_iconst (v := 0) hx hb dX5_ended_27 (by decide) ?_
      refine lv_istore_n (lv' := [(2, .int 0), (0, .ref m0), (1, .int p1)]) hx hb dX5_ended_28 rfl hl (by decide) rfl (fun ls hl => ?_)
      refine lv_iconst (v := 0) hx hb dX5_ended_29 (by decide) ?_
      refine lv_istore_n (lv' := [(3, .int 0), (2, .int 0), (0, .ref m0), (1, .int p1)]) hx hb dX5_ended_30 rfl hl (by decide) rfl (fun ls hl => ?_)
      exact lp1 (tw_sf u1 6 1) p1 0 0 hF _ _ hP hD hS ls (lv_sub hl [2, 3, 1, 0] rfl)
    · replace hF := it_f c3 hF
      refine lv_iconst (v := 0) hx hb dX5_ended_25 (by decide) ?_
      exact W.iret (v := 0) hx hb hr (fun t ht hW => ⟨⟨0, (tw_sf u1 6 1), rfl, Option.some.inj hF, by rw [ht]; exact hP, va_K.moved hW.alike hK⟩, hS.F ht⟩) hS.2.2 dX5_ended_26
  · replace hF := it_f c2 hF
    refine lv_iconst (v := 0) hx hb dX5_ended_10 (by decide) ?_
    refine lv_goto (tgt := 15) hx hb dX5_ended_11 (by decide) ?_
    refine va_put (D := (dC, dI)) (ci := 0) (v := .int 0) (ty := .int) (C := RX5) (T := TX5) (N := 28) hx hb hts in_X5 tyX5 tyX5_ok nmX5 hown hK hP hD hS 0 tw_g rfl 6 (by decide) (hts _ q1992) (fun _ h9 => h9) rfl (tyX5_ok 6 (by decide)) rfl rfl (Nat.le_of_ble_eq_true rfl) dX5_ended_15 (fun H locs hP hD hS => ?_)
    rw [tw_p6] at hP hD
    refine lv_aload_n hx hb dX5_ended_18 rfl (lv_at hl 0 rfl) ?_
    refine va_get (D := (dC, dI)) (ci := 0) (v := .int (((tw_sf u1 6 0)).1 6)) (C := RX5) (T := TX5) (N := 28) hx hb hts in_X5 hown hK hP 0 tw_g rfl 6 (by decide) (hts _ q1992) (fun _ h9 => h9) rfl dX5_ended_19 ?_
    refine lv_if_le (tgt := 27) hx hb dX5_ended_22 (by decide) (fun c4 => ?_) (fun c4 => ?_)
    · replace hF := it_t c4 hF
      refine lv_iconst (v := 0) hx hb dX5_ended_27 (by decide) ?_
      refine lv_istore_n (lv' := [(2, .int 0), (0, .ref m0), (1, .int p1)]) hx hb dX5_ended_28 rfl hl (by decide) rfl (fun ls hl => ?_)
      refine lv_iconst (v := 0) hx hb dX5_ended_29 (by decide) ?_
      refine lv_istore_n (lv' := [(3, .int 0), (2, .int 0), (0, .ref m0), (1, .int p1)]) hx hb dX5_ended_30 rfl hl (by decide) rfl (fun ls hl => ?_)
      exact lp1 (tw_sf u1 6 0) p1 0 0 hF _ _ hP hD hS ls (lv_sub hl [2, 3, 1, 0] rfl)
    · replace hF := it_f c4 hF
      refine lv_iconst (v := 0) hx hb dX5_ended_25 (by decide) ?_
      exact W.iret (v := 0) hx hb hr (fun t ht hW => ⟨⟨0, (tw_sf u1 6 0), rfl, Option.some.inj hF, by rw [ht]; exact hP, va_K.moved hW.alike hK⟩, hS.F ht⟩) hS.2.2 dX5_ended_26

def F_isDirection (σ : Tw) (p1 : Int32) : Option (Int32 × Tw) := gd (inB 5 162) (bnd (F_isIn σ p1 0 (((σ).2 0 (5 : Int32).toNatClampNeg) - 1)) (fun r2 u2 => gd (zbB r2) (some (r2, u2))))
set_option maxHeartbeats 4000000 in
set_option maxRecDepth 100000 in
theorem mt_isDirection (l : Launch) (dC : Nat → ClassId) (dI : Nat → Nat → Nat) (cI cZ : ClassId) (m0 : Nat) (ad : Nat → Nat) (sz : Nat) (σ : Tw)  (p1 : Int32) (out : Int32 × Tw) (hF : F_isDirection σ p1 = some out) : Met l yX5_isDirection (ws_ yX5_isDirection cX5_isDirection 2 (some .boolean)) ({ frames := 1, cells := 0, slots := 0, locals := 22 }) (va_Pc [.ref m0, .int p1] (tw_Pre dC dI cI cZ m0 ad sz σ)) (va_Qi (fun r u => (r, u) = out) (tw_B dC dI cI cZ m0 ad) (tw_A m0 ad sz)) 0 0 (tw_A m0 ad sz) := by
  refine Met.ofW (cc := cX5_isDirection) (maxL := 2) (ret := (some .boolean)) (by decide +kernel) rfl ?_
  intro p e s m args below meth c s₁ B hml hv
  obtain ⟨rfl, hsz, hP, hK, hD0⟩ := hv
  have hx := B.exec
  have hb := B.bytes
  have hr := B.returns
  have hts := atoms_spec (ws := (ws_ yX5_isDirection cX5_isDirection 2 (some .boolean))) B.pre
  have hts : ∀ w ∈ lw_all, w.before _ s = true := fun w h => hts w (List.mem_cons_of_mem _ h)
  have hown : s.vm.findClass RX5 = some m.cls := findClass_of_methodNamed B.named
  have hlocks := B.notSynchronized
  subst hsz
  have hD := tw_Ds (z := s.heap.size) hD0
  have hAA := fun z (h : s.heap.size ≤ z) => tw_Am (m0 := m0) (ad := ad) h
  generalize hAe : tw_A m0 ad s.heap.size = A at hD hAA ⊢
  have hS : va_S A s.heap s.heap [] := va_S.rf
  have hP : va_P (dC, dI) vwCl (tw_ws m0 ad cI cZ σ) s.heap := hP
  have hl := lv_entry ([.ref m0, .int p1]) (n := 2) (Nat.le_of_ble_eq_true rfl)
  rw [lg_entry_eq]
  generalize (lg_sl ([.ref m0, .int p1]) ++ List.replicate (2 - (lg_sl ([.ref m0, .int p1])).length) Slot.unset).toArray = ls at hl ⊢
  have hl : lv_has ls 2 [(0, .ref m0), (1, .int p1)] := hl
  unfold F_isDirection at hF
  refine lv_iload_n hx hb dX5_isDirection_0 rfl (lv_at hl 1 rfl) ?_
  refine lv_iconst (v := 0) hx hb dX5_isDirection_1 (by decide) ?_
  refine lv_aload_n hx hb dX5_isDirection_2 rfl (lv_at hl 0 rfl) ?_
  refine va_get (D := (dC, dI)) (ci := 0) (v := .ref (ad 0)) (C := RX5) (T := TX5) (N := 28) hx hb hts in_X5 hown hK hP 0 tw_g rfl 0 (by decide) (hts _ q1986) (fun _ h9 => h9) rfl dX5_isDirection_3 ?_
  refine lv_iconst (v := 5) hx hb dX5_isDirection_6 (by decide) ?_
  obtain ⟨g1, hF⟩ := gd_s hF
  refine va_iald hx hb hK hP 1 0 tw_e0 rfl (inB_in g1) dX5_isDirection_7 ?_
  refine lv_iconst (v := 1) hx hb dX5_isDirection_8 (by decide) ?_
  refine lv_isub hx hb dX5_isDirection_9 ?_
  obtain ⟨r2, u2, e2, hF⟩ := bnd_s hF
  refine tw_calli (va_runS (As := [.int p1, .int 0, .int (((σ).2 0 (5 : Int32).toNatClampNeg) - 1)]) (rest := []) ⟨hx, hb, hml, hown, hts⟩ (mt_isIn l dC dI cI cZ m0 ad s.heap.size σ  p1 0 (((σ).2 0 (5 : Int32).toNatClampNeg) - 1) _ e2) (va_cwS 3 hts (lw_S q2084 q2085 q125 q2086) rfl rfl rfl (by decide +kernel) ⟨Nat.le_of_ble_eq_true rfl, Nat.le_of_ble_eq_true rfl⟩) (tw_preS hK hP hD _) rfl rfl hl.1 rfl (lv_room (Nat.le_of_ble_eq_true rfl)) dX5_isDirection_10 ⟨Nat.le_of_ble_eq_true rfl, Nat.le_of_ble_eq_true rfl⟩) hS hD hAA (fun rr uu H locs hw hP hD hS => ?_)
  obtain rfl : r2 = rr := (congrArg Prod.fst hw).symm
  obtain rfl : u2 = uu := (congrArg Prod.snd hw).symm
  obtain ⟨g3, hF⟩ := gd_s hF
  exact W.zret (v := r2) hx hb hr (zb_of g3) (fun t ht hW => ⟨⟨r2, u2, rfl, Option.some.inj hF, by rw [ht]; exact hP, va_K.moved hW.alike hK⟩, hS.F ht⟩) hS.2.2 dX5_isDirection_13

def F_direction (σ : Tw) (p1 : Int32) (p2 : Int32) : Option (Int32 × Tw) := bnd (F_isDirection σ p1) (fun r1 u1 => if r1 = 0 then if (((tw_sf u1 6 1)).1 6) ≤ 0 then bnd (F_wayOf (tw_sf u1 6 1) p1 p2) (fun r4 u4 => some (r4, u4)) else some (0, (tw_sf u1 6 1)) else bnd (F_isPlace u1 p2) (fun r5 u5 => if r5 = 0 then if (((tw_sf u5 6 1)).1 6) ≤ 0 then bnd (F_wayOf (tw_sf u5 6 1) p1 p2) (fun r8 u8 => some (r8, u8)) else some (0, (tw_sf u5 6 1)) else if (((tw_sf u5 6 0)).1 6) ≤ 0 then bnd (F_wayOf (tw_sf u5 6 0) p1 p2) (fun r10 u10 => some (r10, u10)) else some (0, (tw_sf u5 6 0))))
set_option maxHeartbeats 4000000 in
set_option maxRecDepth 100000 in
theorem mt_direction (l : Launch) (dC : Nat → ClassId) (dI : Nat → Nat → Nat) (cI cZ : ClassId) (m0 : Nat) (ad : Nat → Nat) (sz : Nat) (σ : Tw)  (p1 : Int32) (p2 : Int32) (out : Int32 × Tw) (hF : F_direction σ p1 p2 = some out) : Met l yX5_direction (ws_ yX5_direction cX5_direction 3 (some .int)) ({ frames := 2, cells := 0, slots := 0, locals := 43 }) (va_Pc [.ref m0, .int p1, .int p2] (tw_Pre dC dI cI cZ m0 ad sz σ)) (va_Qi (fun r u => (r, u) = out) (tw_B dC dI cI cZ m0 ad) (tw_A m0 ad sz)) 0 0 (tw_A m0 ad sz) := by
  refine Met.ofW (cc := cX5_direction) (maxL := 3) (ret := (some .int)) (by decide +kernel) rfl ?_
  intro p e s m args below meth c s₁ B hml hv
  obtain ⟨rfl, hsz, hP, hK, hD0⟩ := hv
  have hx := B.exec
  have hb := B.bytes
  have hr := B.returns
  have hts := atoms_spec (ws := (ws_ yX5_direction cX5_direction 3 (some .int))) B.pre
  have hts : ∀ w ∈ lw_all, w.before _ s = true := fun w h => hts w (List.mem_cons_of_mem _ h)
  have hown : s.vm.findClass RX5 = some m.cls := findClass_of_methodNamed B.named
  have hlocks := B.notSynchronized
  subst hsz
  have hD := tw_Ds (z := s.heap.size) hD0
  have hAA := fun z (h : s.heap.size ≤ z) => tw_Am (m0 := m0) (ad := ad) h
  generalize hAe : tw_A m0 ad s.heap.size = A at hD hAA ⊢
  have hS : va_S A s.heap s.heap [] := va_S.rf
  have hP : va_P (dC, dI) vwCl (tw_ws m0 ad cI cZ σ) s.heap := hP
  have hl := lv_entry ([.ref m0, .int p1, .int p2]) (n := 3) (Nat.le_of_ble_eq_true rfl)
  rw [lg_entry_eq]
  generalize (lg_sl ([.ref m0, .int p1, .int p2]) ++ List.replicate (3 - (lg_sl ([.ref m0, .int p1, .int p2])).length) Slot.unset).toArray = ls at hl ⊢
  have hl : lv_has ls 3 [(0, .ref m0), (1, .int p1), (2, .int p2)] := hl
  unfold F_direction at hF
  refine lv_aload_n hx hb dX5_direction_0 rfl (lv_at hl 0 rfl) ?_
  refine lv_aload_n hx hb dX5_direction_1 rfl (lv_at hl 0 rfl) ?_
  refine lv_iload_n hx hb dX5_direction_2 rfl (lv_at hl 1 rfl) ?_
  obtain ⟨r1, u1, e1, hF⟩ := bnd_s hF
  refine tw_calli (va_runV (As := [.int p1]) (rest := [.ref m0]) ⟨hx, hb, hml, hown, hts⟩ (mt_isDirection l dC dI cI cZ m0 ad s.heap.size σ  p1 _ e1) (cwV 1 hts (lw_V q2364 q2366 qs89 q125 q2367) rfl rfl rfl (by decide +kernel) ⟨Nat.le_of_ble_eq_true rfl, Nat.le_of_ble_eq_true rfl⟩) (tw_preV hK hP hD _) rfl rfl hl.1 rfl (lv_room (Nat.le_of_ble_eq_true rfl)) dX5_direction_3 ⟨Nat.le_of_ble_eq_true rfl, Nat.le_of_ble_eq_true rfl⟩) hS hD hAA (fun rr uu H locs hw hP hD hS => ?_)
  obtain rfl : r1 = rr := (congrArg Prod.fst hw).symm
  obtain rfl : u1 = uu := (congrArg Prod.snd hw).symm
  refine lv_if_eq (tgt := 21) hx hb dX5_direction_6 (by decide) (fun c2 => ?_) (fun c2 => ?_)
  · replace hF := it_t c2 hF
    refine lv_iconst (v := 1) hx hb dX5_direction_21 (by decide) ?_
    refine va_put (D := (dC, dI)) (ci := 0) (v := .int 1) (ty := .int) (C := RX5) (T := TX5) (N := 28) hx hb hts in_X5 tyX5 tyX5_ok nmX5 hown hK hP hD hS 0 tw_g rfl 6 (by decide) (hts _ q1992) (fun _ h9 => h9) rfl (tyX5_ok 6 (by decide)) rfl rfl (Nat.le_of_ble_eq_true rfl) dX5_direction_22 (fun H locs hP hD hS => ?_)
    rw [tw_p6] at hP hD
    refine lv_aload_n hx hb dX5_direction_25 rfl (lv_at hl 0 rfl) ?_
    refine va_get (D := (dC, dI)) (ci := 0) (v := .int (((tw_sf u1 6 1)).1 6)) (C := RX5) (T := TX5) (N := 28) hx hb hts in_X5 hown hK hP 0 tw_g rfl 6 (by decide) (hts _ q1992) (fun _ h9 => h9) rfl dX5_direction_26 ?_
    refine lv_if_le (tgt := 36) hx hb dX5_direction_29 (by decide) (fun c3 => ?_) (fun c3 => ?_)
    · replace hF := it_t c3 hF
      refine lv_aload_n hx hb dX5_direction_36 rfl (lv_at hl 0 rfl) ?_
      refine lv_iload_n hx hb dX5_direction_37 rfl (lv_at hl 1 rfl) ?_
      refine lv_iload_n hx hb dX5_direction_38 rfl (lv_at hl 2 rfl) ?_
      obtain ⟨r4, u4, e4, hF⟩ := bnd_s hF
      refine tw_calli (va_runV (As := [.int p1, .int p2]) (rest := []) ⟨hx, hb, hml, hown, hts⟩ (mt_wayOf l dC dI cI cZ m0 ad H.size (tw_sf u1 6 1)  p1 p2 _ e4) (cwV 2 hts (lw_V q2245 q2247 qs68 q125 q2248) rfl rfl rfl (by decide +kernel) ⟨Nat.le_of_ble_eq_true rfl, Nat.le_of_ble_eq_true rfl⟩) (tw_preV hK hP hD _) rfl rfl hl.1 rfl (lv_room (Nat.le_of_ble_eq_true rfl)) dX5_direction_39 ⟨Nat.le_of_ble_eq_true rfl, Nat.le_of_ble_eq_true rfl⟩) hS hD hAA (fun rr uu H locs hw hP hD hS => ?_)
      obtain rfl : r4 = rr := (congrArg Prod.fst hw).symm
      obtain rfl : u4 = uu := (congrArg Prod.snd hw).symm
      exact W.iret (v := r4) hx hb hr (fun t ht hW => ⟨⟨r4, u4, rfl, Option.some.inj hF, by rw [ht]; exact hP, va_K.moved hW.alike hK⟩, hS.F ht⟩) hS.2.2 dX5_direction_42
    · replace hF := it_f c3 hF
      refine lv_iconst (v := 0) hx hb dX5_direction_32 (by decide) ?_
      refine lv_goto (tgt := 42) hx hb dX5_direction_33 (by decide) ?_
      exact W.iret (v := 0) hx hb hr (fun t ht hW => ⟨⟨0, (tw_sf u1 6 1), rfl, Option.some.inj hF, by rw [ht]; exact hP, va_K.moved hW.alike hK⟩, hS.F ht⟩) hS.2.2 dX5_direction_42
  · replace hF := it_f c2 hF
    refine lv_aload_n hx hb dX5_direction_9 rfl (lv_at hl 0 rfl) ?_
    refine lv_iload_n hx hb dX5_direction_10 rfl (lv_at hl 2 rfl) ?_
    obtain ⟨r5, u5, e5, hF⟩ := bnd_s hF
    refine tw_calli (va_runV (As := [.int p2]) (rest := [.ref m0]) ⟨hx, hb, hml, hown, hts⟩ (mt_isPlace l dC dI cI cZ m0 ad H.size u1  p2 _ e5) (cwV 1 hts (lw_V q2177 q2179 qs58 q125 q2180) rfl rfl rfl (by decide +kernel) ⟨Nat.le_of_ble_eq_true rfl, Nat.le_of_ble_eq_true rfl⟩) (tw_preV hK hP hD _) rfl rfl hl.1 rfl (lv_room (Nat.le_of_ble_eq_true rfl)) dX5_direction_11 ⟨Nat.le_of_ble_eq_true rfl, Nat.le_of_ble_eq_true rfl⟩) hS hD hAA (fun rr uu H locs hw hP hD hS => ?_)
    obtain rfl : r5 = rr := (congrArg Prod.fst hw).symm
    obtain rfl : u5 = uu := (congrArg Prod.snd hw).symm
    refine lv_if_eq (tgt := 21) hx hb dX5_direction_14 (by decide) (fun c6 => ?_) (fun c6 => ?_)
    · replace hF := it_t c6 hF
      refine lv_iconst (v := 1) hx hb dX5_direction_21 (by decide) ?_
      refine va_put (D := (dC, dI)) (ci := 0) (v := .int 1) (ty := .int) (C := RX5) (T := TX5) (N := 28) hx hb hts in_X5 tyX5 tyX5_ok nmX5 hown hK hP hD hS 0 tw_g rfl 6 (by decide) (hts _ q1992) (fun _ h9 => h9) rfl (tyX5_ok 6 (by decide)) rfl rfl (Nat.le_of_ble_eq_true rfl) dX5_direction_22 (fun H locs hP hD hS => ?_)
      rw [tw_p6] at hP hD
      refine lv_aload_n hx hb dX5_direction_25 rfl (lv_at hl 0 rfl) ?_
      refine va_get (D := (dC, dI)) (ci := 0) (v := .int (((tw_sf u5 6 1)).1 6)) (C := RX5) (T := TX5) (N := 28) hx hb hts in_X5 hown hK hP 0 tw_g rfl 6 (by decide) (hts _ q1992) (fun _ h9 => h9) rfl dX5_direction_26 ?_
      refine lv_if_le (tgt := 36) hx hb dX5_direction_29 (by decide) (fun c7 => ?_) (fun c7 => ?_)
      · replace hF := it_t c7 hF
        refine lv_aload_n hx hb dX5_direction_36 rfl (lv_at hl 0 rfl) ?_
        refine lv_iload_n hx hb dX5_direction_37 rfl (lv_at hl 1 rfl) ?_
        refine lv_iload_n hx hb dX5_direction_38 rfl (lv_at hl 2 rfl) ?_
        obtain ⟨r8, u8, e8, hF⟩ := bnd_s hF
        refine tw_calli (va_runV (As := [.int p1, .int p2]) (rest := []) ⟨hx, hb, hml, hown, hts⟩ (mt_wayOf l dC dI cI cZ m0 ad H.size (tw_sf u5 6 1)  p1 p2 _ e8) (cwV 2 hts (lw_V q2245 q2247 qs68 q125 q2248) rfl rfl rfl (by decide +kernel) ⟨Nat.le_of_ble_eq_true rfl, Nat.le_of_ble_eq_true rfl⟩) (tw_preV hK hP hD _) rfl rfl hl.1 rfl (lv_room (Nat.le_of_ble_eq_true rfl)) dX5_direction_39 ⟨Nat.le_of_ble_eq_true rfl, Nat.le_of_ble_eq_true rfl⟩) hS hD hAA (fun rr uu H locs hw hP hD hS => ?_)
        obtain rfl : r8 = rr := (congrArg Prod.fst hw).symm
        obtain rfl : u8 = uu := (congrArg Prod.snd hw).symm
        exact W.iret (v := r8) hx hb hr (fun t ht hW => ⟨⟨r8, u8, rfl, Option.some.inj hF, by rw [ht]; exact hP, va_K.moved hW.alike hK⟩, hS.F ht⟩) hS.2.2 dX5_direction_42
      · replace hF := it_f c7 hF
        refine lv_iconst (v := 0) hx hb dX5_direction_32 (by decide) ?_
        refine lv_goto (tgt := 42) hx hb dX5_direction_33 (by decide) ?_
        exact W.iret (v := 0) hx hb hr (fun t ht hW => ⟨⟨0, (tw_sf u5 6 1), rfl, Option.some.inj hF, by rw [ht]; exact hP, va_K.moved hW.alike hK⟩, hS.F ht⟩) hS.2.2 dX5_direction_42
    · replace hF := it_f c6 hF
      refine lv_iconst (v := 0) hx hb dX5_direction_17 (by decide) ?_
      refine lv_goto (tgt := 22) hx hb dX5_direction_18 (by decide) ?_
      refine va_put (D := (dC, dI)) (ci := 0) (v := .int 0) (ty := .int) (C := RX5) (T := TX5) (N := 28) hx hb hts in_X5 tyX5 tyX5_ok nmX5 hown hK hP hD hS 0 tw_g rfl 6 (by decide) (hts _ q1992) (fun _ h9 => h9) rfl (tyX5_ok 6 (by decide)) rfl rfl (Nat.le_of_ble_eq_true rfl) dX5_direction_22 (fun H locs hP hD hS => ?_)
      rw [tw_p6] at hP hD
      refine lv_aload_n hx hb dX5_direction_25 rfl (lv_at hl 0 rfl) ?_
      refine va_get (D := (dC, dI)) (ci := 0) (v := .int (((tw_sf u5 6 0)).1 6)) (C := RX5) (T := TX5) (N := 28) hx hb hts in_X5 hown hK hP 0 tw_g rfl 6 (by decide) (hts _ q1992) (fun _ h9 => h9) rfl dX5_direction_26 ?_
      refine lv_if_le (tgt := 36) hx hb dX5_direction_29 (by decide) (fun c9 => ?_) (fun c9 => ?_)
      · replace hF := it_t c9 hF
        refine lv_aload_n hx hb dX5_direction_36 rfl (lv_at hl 0 rfl) ?_
        refine lv_iload_n hx hb dX5_direction_37 rfl (lv_at hl 1 rfl) ?_
        refine lv_iload_n hx hb dX5_direction_38 rfl (lv_at hl 2 rfl) ?_
        obtain ⟨r10, u10, e10, hF⟩ := bnd_s hF
        refine tw_calli (va_runV (As := [.int p1, .int p2]) (rest := []) ⟨hx, hb, hml, hown, hts⟩ (mt_wayOf l dC dI cI cZ m0 ad H.size (tw_sf u5 6 0)  p1 p2 _ e10) (cwV 2 hts (lw_V q2245 q2247 qs68 q125 q2248) rfl rfl rfl (by decide +kernel) ⟨Nat.le_of_ble_eq_true rfl, Nat.le_of_ble_eq_true rfl⟩) (tw_preV hK hP hD _) rfl rfl hl.1 rfl (lv_room (Nat.le_of_ble_eq_true rfl)) dX5_direction_39 ⟨Nat.le_of_ble_eq_true rfl, Nat.le_of_ble_eq_true rfl⟩) hS hD hAA (fun rr uu H locs hw hP hD hS => ?_)
        obtain rfl : r10 = rr := (congrArg Prod.fst hw).symm
        obtain rfl : u10 = uu := (congrArg Prod.snd hw).symm
        exact W.iret (v := r10) hx hb hr (fun t ht hW => ⟨⟨r10, u10, rfl, Option.some.inj hF, by rw [ht]; exact hP, va_K.moved hW.alike hK⟩, hS.F ht⟩) hS.2.2 dX5_direction_42
      · replace hF := it_f c9 hF
        refine lv_iconst (v := 0) hx hb dX5_direction_32 (by decide) ?_
        refine lv_goto (tgt := 42) hx hb dX5_direction_33 (by decide) ?_
        exact W.iret (v := 0) hx hb hr (fun t ht hW => ⟨⟨0, (tw_sf u5 6 0), rfl, Option.some.inj hF, by rw [ht]; exact hP, va_K.moved hW.alike hK⟩, hS.F ht⟩) hS.2.2 dX5_direction_42

def F_chainOf (σ : Tw) (p1 : Int32) : Option (Int32 × Tw) := bnd (F_isDirection σ p1) (fun r1 u1 => if r1 = 0 then if (((tw_sf u1 6 1)).1 6) ≤ 0 then gd (inB (81 + p1) 162) (some ((((tw_sf u1 6 1)).2 0 ((81 + p1)).toNatClampNeg), (tw_sf u1 6 1))) else some (0, (tw_sf u1 6 1)) else if (((tw_sf u1 6 0)).1 6) ≤ 0 then gd (inB (81 + p1) 162) (some ((((tw_sf u1 6 0)).2 0 ((81 + p1)).toNatClampNeg), (tw_sf u1 6 0))) else some (0, (tw_sf u1 6 0)))
set_option maxHeartbeats 4000000 in
set_option maxRecDepth 100000 in
theorem mt_chainOf (l : Launch) (dC : Nat → ClassId) (dI : Nat → Nat → Nat) (cI cZ : ClassId) (m0 : Nat) (ad : Nat → Nat) (sz : Nat) (σ : Tw)  (p1 : Int32) (out : Int32 × Tw) (hF : F_chainOf σ p1 = some out) : Met l yX5_chainOf (ws_ yX5_chainOf cX5_chainOf 2 (some .int)) ({ frames := 2, cells := 0, slots := 0, locals := 43 }) (va_Pc [.ref m0, .int p1] (tw_Pre dC dI cI cZ m0 ad sz σ)) (va_Qi (fun r u => (r, u) = out) (tw_B dC dI cI cZ m0 ad) (tw_A m0 ad sz)) 0 0 (tw_A m0 ad sz) := by
  refine Met.ofW (cc := cX5_chainOf) (maxL := 2) (ret := (some .int)) (by decide +kernel) rfl ?_
  intro p e s m args below meth c s₁ B hml hv
  obtain ⟨rfl, hsz, hP, hK, hD0⟩ := hv
  have hx := B.exec
  have hb := B.bytes
  have hr := B.returns
  have hts := atoms_spec (ws := (ws_ yX5_chainOf cX5_chainOf 2 (some .int))) B.pre
  have hts : ∀ w ∈ lw_all, w.before _ s = true := fun w h => hts w (List.mem_cons_of_mem _ h)
  have hown : s.vm.findClass RX5 = some m.cls := findClass_of_methodNamed B.named
  have hlocks := B.notSynchronized
  subst hsz
  have hD := tw_Ds (z := s.heap.size) hD0
  have hAA := fun z (h : s.heap.size ≤ z) => tw_Am (m0 := m0) (ad := ad) h
  generalize hAe : tw_A m0 ad s.heap.size = A at hD hAA ⊢
  have hS : va_S A s.heap s.heap [] := va_S.rf
  have hP : va_P (dC, dI) vwCl (tw_ws m0 ad cI cZ σ) s.heap := hP
  have hl := lv_entry ([.ref m0, .int p1]) (n := 2) (Nat.le_of_ble_eq_true rfl)
  rw [lg_entry_eq]
  generalize (lg_sl ([.ref m0, .int p1]) ++ List.replicate (2 - (lg_sl ([.ref m0, .int p1])).length) Slot.unset).toArray = ls at hl ⊢
  have hl : lv_has ls 2 [(0, .ref m0), (1, .int p1)] := hl
  unfold F_chainOf at hF
  refine lv_aload_n hx hb dX5_chainOf_0 rfl (lv_at hl 0 rfl) ?_
  refine lv_aload_n hx hb dX5_chainOf_1 rfl (lv_at hl 0 rfl) ?_
  refine lv_iload_n hx hb dX5_chainOf_2 rfl (lv_at hl 1 rfl) ?_
  obtain ⟨r1, u1, e1, hF⟩ := bnd_s hF
  refine tw_calli (va_runV (As := [.int p1]) (rest := [.ref m0]) ⟨hx, hb, hml, hown, hts⟩ (mt_isDirection l dC dI cI cZ m0 ad s.heap.size σ  p1 _ e1) (cwV 1 hts (lw_V q2364 q2366 qs89 q125 q2367) rfl rfl rfl (by decide +kernel) ⟨Nat.le_of_ble_eq_true rfl, Nat.le_of_ble_eq_true rfl⟩) (tw_preV hK hP hD _) rfl rfl hl.1 rfl (lv_room (Nat.le_of_ble_eq_true rfl)) dX5_chainOf_3 ⟨Nat.le_of_ble_eq_true rfl, Nat.le_of_ble_eq_true rfl⟩) hS hD hAA (fun rr uu H locs hw hP hD hS => ?_)
  obtain rfl : r1 = rr := (congrArg Prod.fst hw).symm
  obtain rfl : u1 = uu := (congrArg Prod.snd hw).symm
  refine lv_if_eq (tgt := 13) hx hb dX5_chainOf_6 (by decide) (fun c2 => ?_) (fun c2 => ?_)
  · replace hF := it_t c2 hF
    refine lv_iconst (v := 1) hx hb dX5_chainOf_13 (by decide) ?_
    refine va_put (D := (dC, dI)) (ci := 0) (v := .int 1) (ty := .int) (C := RX5) (T := TX5) (N := 28) hx hb hts in_X5 tyX5 tyX5_ok nmX5 hown hK hP hD hS 0 tw_g rfl 6 (by decide) (hts _ q1992) (fun _ h9 => h9) rfl (tyX5_ok 6 (by decide)) rfl rfl (Nat.le_of_ble_eq_true rfl) dX5_chainOf_14 (fun H locs hP hD hS => ?_)
    rw [tw_p6] at hP hD
    refine lv_aload_n hx hb dX5_chainOf_17 rfl (lv_at hl 0 rfl) ?_
    refine va_get (D := (dC, dI)) (ci := 0) (v := .int (((tw_sf u1 6 1)).1 6)) (C := RX5) (T := TX5) (N := 28) hx hb hts in_X5 hown hK hP 0 tw_g rfl 6 (by decide) (hts _ q1992) (fun _ h9 => h9) rfl dX5_chainOf_18 ?_
    refine lv_if_le (tgt := 28) hx hb dX5_chainOf_21 (by decide) (fun c3 => ?_) (fun c3 => ?_)
    · replace hF := it_t c3 hF
      refine lv_aload_n hx hb dX5_chainOf_28 rfl (lv_at hl 0 rfl) ?_
      refine va_get (D := (dC, dI)) (ci := 0) (v := .ref (ad 0)) (C := RX5) (T := TX5) (N := 28) hx hb hts in_X5 hown hK hP 0 tw_g rfl 0 (by decide) (hts _ q1986) (fun _ h9 => h9) rfl dX5_chainOf_29 ?_
      refine lv_bipush (v := 81) hx hb dX5_chainOf_32 (by decide) ?_
      refine lv_iload_n hx hb dX5_chainOf_34 rfl (lv_at hl 1 rfl) ?_
      refine lv_iadd hx hb dX5_chainOf_35 ?_
      obtain ⟨g4, hF⟩ := gd_s hF
      refine va_iald hx hb hK hP 1 0 tw_e0 rfl (inB_in g4) dX5_chainOf_36 ?_
      exact W.iret (v := (((tw_sf u1 6 1)).2 0 ((81 + p1)).toNatClampNeg)) hx hb hr (fun t ht hW => ⟨⟨(((tw_sf u1 6 1)).2 0 ((81 + p1)).toNatClampNeg), (tw_sf u1 6 1), rfl, Option.some.inj hF, by rw [ht]; exact hP, va_K.moved hW.alike hK⟩, hS.F ht⟩) hS.2.2 dX5_chainOf_37
    · replace hF := it_f c3 hF
      refine lv_iconst (v := 0) hx hb dX5_chainOf_24 (by decide) ?_
      refine lv_goto (tgt := 37) hx hb dX5_chainOf_25 (by decide) ?_
      exact W.iret (v := 0) hx hb hr (fun t ht hW => ⟨⟨0, (tw_sf u1 6 1), rfl, Option.some.inj hF, by rw [ht]; exact hP, va_K.moved hW.alike hK⟩, hS.F ht⟩) hS.2.2 dX5_chainOf_37
  · replace hF := it_f c2 hF
    refine lv_iconst (v := 0) hx hb dX5_chainOf_9 (by decide) ?_
    refine lv_goto (tgt := 14) hx hb dX5_chainOf_10 (by decide) ?_
    refine va_put (D := (dC, dI)) (ci := 0) (v := .int 0) (ty := .int) (C := RX5) (T := TX5) (N := 28) hx hb hts in_X5 tyX5 tyX5_ok nmX5 hown hK hP hD hS 0 tw_g rfl 6 (by decide) (hts _ q1992) (fun _ h9 => h9) rfl (tyX5_ok 6 (by decide)) rfl rfl (Nat.le_of_ble_eq_true rfl) dX5_chainOf_14 (fun H locs hP hD hS => ?_)
    rw [tw_p6] at hP hD
    refine lv_aload_n hx hb dX5_chainOf_17 rfl (lv_at hl 0 rfl) ?_
    refine va_get (D := (dC, dI)) (ci := 0) (v := .int (((tw_sf u1 6 0)).1 6)) (C := RX5) (T := TX5) (N := 28) hx hb hts in_X5 hown hK hP 0 tw_g rfl 6 (by decide) (hts _ q1992) (fun _ h9 => h9) rfl dX5_chainOf_18 ?_
    refine lv_if_le (tgt := 28) hx hb dX5_chainOf_21 (by decide) (fun c5 => ?_) (fun c5 => ?_)
    · replace hF := it_t c5 hF
      refine lv_aload_n hx hb dX5_chainOf_28 rfl (lv_at hl 0 rfl) ?_
      refine va_get (D := (dC, dI)) (ci := 0) (v := .ref (ad 0)) (C := RX5) (T := TX5) (N := 28) hx hb hts in_X5 hown hK hP 0 tw_g rfl 0 (by decide) (hts _ q1986) (fun _ h9 => h9) rfl dX5_chainOf_29 ?_
      refine lv_bipush (v := 81) hx hb dX5_chainOf_32 (by decide) ?_
      refine lv_iload_n hx hb dX5_chainOf_34 rfl (lv_at hl 1 rfl) ?_
      refine lv_iadd hx hb dX5_chainOf_35 ?_
      obtain ⟨g6, hF⟩ := gd_s hF
      refine va_iald hx hb hK hP 1 0 tw_e0 rfl (inB_in g6) dX5_chainOf_36 ?_
      exact W.iret (v := (((tw_sf u1 6 0)).2 0 ((81 + p1)).toNatClampNeg)) hx hb hr (fun t ht hW => ⟨⟨(((tw_sf u1 6 0)).2 0 ((81 + p1)).toNatClampNeg), (tw_sf u1 6 0), rfl, Option.some.inj hF, by rw [ht]; exact hP, va_K.moved hW.alike hK⟩, hS.F ht⟩) hS.2.2 dX5_chainOf_37
    · replace hF := it_f c5 hF
      refine lv_iconst (v := 0) hx hb dX5_chainOf_24 (by decide) ?_
      refine lv_goto (tgt := 37) hx hb dX5_chainOf_25 (by decide) ?_
      exact W.iret (v := 0) hx hb hr (fun t ht hW => ⟨⟨0, (tw_sf u1 6 0), rfl, Option.some.inj hF, by rw [ht]; exact hP, va_K.moved hW.alike hK⟩, hS.F ht⟩) hS.2.2 dX5_chainOf_37

def F_product (n : Nat) (σ : Tw) (p1 : Int32) (p2 : Int32) : Option (Int32 × Tw) := bnd (F_isDirection σ p1) (fun r1 u1 => if r1 = 0 then if (((tw_sf u1 6 1)).1 6) ≤ 0 then bnd (F_productOf n (tw_sf u1 6 1) p1 p2) (fun r4 u4 => some (r4, u4)) else some (0, (tw_sf u1 6 1)) else bnd (F_isDirection u1 p2) (fun r5 u5 => if r5 = 0 then if (((tw_sf u5 6 1)).1 6) ≤ 0 then bnd (F_productOf n (tw_sf u5 6 1) p1 p2) (fun r8 u8 => some (r8, u8)) else some (0, (tw_sf u5 6 1)) else if (((tw_sf u5 6 0)).1 6) ≤ 0 then bnd (F_productOf n (tw_sf u5 6 0) p1 p2) (fun r10 u10 => some (r10, u10)) else some (0, (tw_sf u5 6 0))))
set_option maxHeartbeats 4000000 in
set_option maxRecDepth 100000 in
theorem mt_product (l : Launch) (dC : Nat → ClassId) (dI : Nat → Nat → Nat) (cI cZ : ClassId) (m0 : Nat) (ad : Nat → Nat) (sz : Nat) (σ : Tw) (n : Nat)  (p1 : Int32) (p2 : Int32) (out : Int32 × Tw) (hF : F_product n σ p1 p2 = some out) : Met l yX5_product (ws_ yX5_product cX5_product 3 (some .int)) ({ frames := 3, cells := 0, slots := 0, locals := 67 }) (va_Pc [.ref m0, .int p1, .int p2] (tw_Pre dC dI cI cZ m0 ad sz σ)) (va_Qi (fun r u => (r, u) = out) (tw_B dC dI cI cZ m0 ad) (tw_A m0 ad sz)) 0 0 (tw_A m0 ad sz) := by
  refine Met.ofW (cc := cX5_product) (maxL := 3) (ret := (some .int)) (by decide +kernel) rfl ?_
  intro p e s m args below meth c s₁ B hml hv
  obtain ⟨rfl, hsz, hP, hK, hD0⟩ := hv
  have hx := B.exec
  have hb := B.bytes
  have hr := B.returns
  have hts := atoms_spec (ws := (ws_ yX5_product cX5_product 3 (some .int))) B.pre
  have hts : ∀ w ∈ lw_all, w.before _ s = true := fun w h => hts w (List.mem_cons_of_mem _ h)
  have hown : s.vm.findClass RX5 = some m.cls := findClass_of_methodNamed B.named
  have hlocks := B.notSynchronized
  subst hsz
  have hD := tw_Ds (z := s.heap.size) hD0
  have hAA := fun z (h : s.heap.size ≤ z) => tw_Am (m0 := m0) (ad := ad) h
  generalize hAe : tw_A m0 ad s.heap.size = A at hD hAA ⊢
  have hS : va_S A s.heap s.heap [] := va_S.rf
  have hP : va_P (dC, dI) vwCl (tw_ws m0 ad cI cZ σ) s.heap := hP
  have hl := lv_entry ([.ref m0, .int p1, .int p2]) (n := 3) (Nat.le_of_ble_eq_true rfl)
  rw [lg_entry_eq]
  generalize (lg_sl ([.ref m0, .int p1, .int p2]) ++ List.replicate (3 - (lg_sl ([.ref m0, .int p1, .int p2])).length) Slot.unset).toArray = ls at hl ⊢
  have hl : lv_has ls 3 [(0, .ref m0), (1, .int p1), (2, .int p2)] := hl
  unfold F_product at hF
  refine lv_aload_n hx hb dX5_product_0 rfl (lv_at hl 0 rfl) ?_
  refine lv_aload_n hx hb dX5_product_1 rfl (lv_at hl 0 rfl) ?_
  refine lv_iload_n hx hb dX5_product_2 rfl (lv_at hl 1 rfl) ?_
  obtain ⟨r1, u1, e1, hF⟩ := bnd_s hF
  refine tw_calli (va_runV (As := [.int p1]) (rest := [.ref m0]) ⟨hx, hb, hml, hown, hts⟩ (mt_isDirection l dC dI cI cZ m0 ad s.heap.size σ  p1 _ e1) (cwV 1 hts (lw_V q2364 q2366 qs89 q125 q2367) rfl rfl rfl (by decide +kernel) ⟨Nat.le_of_ble_eq_true rfl, Nat.le_of_ble_eq_true rfl⟩) (tw_preV hK hP hD _) rfl rfl hl.1 rfl (lv_room (Nat.le_of_ble_eq_true rfl)) dX5_product_3 ⟨Nat.le_of_ble_eq_true rfl, Nat.le_of_ble_eq_true rfl⟩) hS hD hAA (fun rr uu H locs hw hP hD hS => ?_)
  obtain rfl : r1 = rr := (congrArg Prod.fst hw).symm
  obtain rfl : u1 = uu := (congrArg Prod.snd hw).symm
  refine lv_if_eq (tgt := 21) hx hb dX5_product_6 (by decide) (fun c2 => ?_) (fun c2 => ?_)
  · replace hF := it_t c2 hF
    refine lv_iconst (v := 1) hx hb dX5_product_21 (by decide) ?_
    refine va_put (D := (dC, dI)) (ci := 0) (v := .int 1) (ty := .int) (C := RX5) (T := TX5) (N := 28) hx hb hts in_X5 tyX5 tyX5_ok nmX5 hown hK hP hD hS 0 tw_g rfl 6 (by decide) (hts _ q1992) (fun _ h9 => h9) rfl (tyX5_ok 6 (by decide)) rfl rfl (Nat.le_of_ble_eq_true rfl) dX5_product_22 (fun H locs hP hD hS => ?_)
    rw [tw_p6] at hP hD
    refine lv_aload_n hx hb dX5_product_25 rfl (lv_at hl 0 rfl) ?_
    refine va_get (D := (dC, dI)) (ci := 0) (v := .int (((tw_sf u1 6 1)).1 6)) (C := RX5) (T := TX5) (N := 28) hx hb hts in_X5 hown hK hP 0 tw_g rfl 6 (by decide) (hts _ q1992) (fun _ h9 => h9) rfl dX5_product_26 ?_
    refine lv_if_le (tgt := 36) hx hb dX5_product_29 (by decide) (fun c3 => ?_) (fun c3 => ?_)
    · replace hF := it_t c3 hF
      refine lv_aload_n hx hb dX5_product_36 rfl (lv_at hl 0 rfl) ?_
      refine lv_iload_n hx hb dX5_product_37 rfl (lv_at hl 1 rfl) ?_
      refine lv_iload_n hx hb dX5_product_38 rfl (lv_at hl 2 rfl) ?_
      obtain ⟨r4, u4, e4, hF⟩ := bnd_s hF
      refine tw_calli (va_runV (As := [.int p1, .int p2]) (rest := []) ⟨hx, hb, hml, hown, hts⟩ (mt_productOf l dC dI cI cZ m0 ad H.size (tw_sf u1 6 1) n  p1 p2 _ e4) (cwV 2 hts (lw_V q2272 q2274 qs74 q125 q2275) rfl rfl rfl (by decide +kernel) ⟨Nat.le_of_ble_eq_true rfl, Nat.le_of_ble_eq_true rfl⟩) (tw_preV hK hP hD _) rfl rfl hl.1 rfl (lv_room (Nat.le_of_ble_eq_true rfl)) dX5_product_39 ⟨Nat.le_of_ble_eq_true rfl, Nat.le_of_ble_eq_true rfl⟩) hS hD hAA (fun rr uu H locs hw hP hD hS => ?_)
      obtain rfl : r4 = rr := (congrArg Prod.fst hw).symm
      obtain rfl : u4 = uu := (congrArg Prod.snd hw).symm
      exact W.iret (v := r4) hx hb hr (fun t ht hW => ⟨⟨r4, u4, rfl, Option.some.inj hF, by rw [ht]; exact hP, va_K.moved hW.alike hK⟩, hS.F ht⟩) hS.2.2 dX5_product_42
    · replace hF := it_f c3 hF
      refine lv_iconst (v := 0) hx hb dX5_product_32 (by decide) ?_
      refine lv_goto (tgt := 42) hx hb dX5_product_33 (by decide) ?_
      exact W.iret (v := 0) hx hb hr (fun t ht hW => ⟨⟨0, (tw_sf u1 6 1), rfl, Option.some.inj hF, by rw [ht]; exact hP, va_K.moved hW.alike hK⟩, hS.F ht⟩) hS.2.2 dX5_product_42
  · replace hF := it_f c2 hF
    refine lv_aload_n hx hb dX5_product_9 rfl (lv_at hl 0 rfl) ?_
    refine lv_iload_n hx hb dX5_product_10 rfl (lv_at hl 2 rfl) ?_
    obtain ⟨r5, u5, e5, hF⟩ := bnd_s hF
    refine tw_calli (va_runV (As := [.int p2]) (rest := [.ref m0]) ⟨hx, hb, hml, hown, hts⟩ (mt_isDirection l dC dI cI cZ m0 ad H.size u1  p2 _ e5) (cwV 1 hts (lw_V q2364 q2366 qs89 q125 q2367) rfl rfl rfl (by decide +kernel) ⟨Nat.le_of_ble_eq_true rfl, Nat.le_of_ble_eq_true rfl⟩) (tw_preV hK hP hD _) rfl rfl hl.1 rfl (lv_room (Nat.le_of_ble_eq_true rfl)) dX5_product_11 ⟨Nat.le_of_ble_eq_true rfl, Nat.le_of_ble_eq_true rfl⟩) hS hD hAA (fun rr uu H locs hw hP hD hS => ?_)
    obtain rfl : r5 = rr := (congrArg Prod.fst hw).symm
    obtain rfl : u5 = uu := (congrArg Prod.snd hw).symm
    refine lv_if_eq (tgt := 21) hx hb dX5_product_14 (by decide) (fun c6 => ?_) (fun c6 => ?_)
    · replace hF := it_t c6 hF
      refine lv_iconst (v := 1) hx hb dX5_product_21 (by decide) ?_
      refine va_put (D := (dC, dI)) (ci := 0) (v := .int 1) (ty := .int) (C := RX5) (T := TX5) (N := 28) hx hb hts in_X5 tyX5 tyX5_ok nmX5 hown hK hP hD hS 0 tw_g rfl 6 (by decide) (hts _ q1992) (fun _ h9 => h9) rfl (tyX5_ok 6 (by decide)) rfl rfl (Nat.le_of_ble_eq_true rfl) dX5_product_22 (fun H locs hP hD hS => ?_)
      rw [tw_p6] at hP hD
      refine lv_aload_n hx hb dX5_product_25 rfl (lv_at hl 0 rfl) ?_
      refine va_get (D := (dC, dI)) (ci := 0) (v := .int (((tw_sf u5 6 1)).1 6)) (C := RX5) (T := TX5) (N := 28) hx hb hts in_X5 hown hK hP 0 tw_g rfl 6 (by decide) (hts _ q1992) (fun _ h9 => h9) rfl dX5_product_26 ?_
      refine lv_if_le (tgt := 36) hx hb dX5_product_29 (by decide) (fun c7 => ?_) (fun c7 => ?_)
      · replace hF := it_t c7 hF
        refine lv_aload_n hx hb dX5_product_36 rfl (lv_at hl 0 rfl) ?_
        refine lv_iload_n hx hb dX5_product_37 rfl (lv_at hl 1 rfl) ?_
        refine lv_iload_n hx hb dX5_product_38 rfl (lv_at hl 2 rfl) ?_
        obtain ⟨r8, u8, e8, hF⟩ := bnd_s hF
        refine tw_calli (va_runV (As := [.int p1, .int p2]) (rest := []) ⟨hx, hb, hml, hown, hts⟩ (mt_productOf l dC dI cI cZ m0 ad H.size (tw_sf u5 6 1) n  p1 p2 _ e8) (cwV 2 hts (lw_V q2272 q2274 qs74 q125 q2275) rfl rfl rfl (by decide +kernel) ⟨Nat.le_of_ble_eq_true rfl, Nat.le_of_ble_eq_true rfl⟩) (tw_preV hK hP hD _) rfl rfl hl.1 rfl (lv_room (Nat.le_of_ble_eq_true rfl)) dX5_product_39 ⟨Nat.le_of_ble_eq_true rfl, Nat.le_of_ble_eq_true rfl⟩) hS hD hAA (fun rr uu H locs hw hP hD hS => ?_)
        obtain rfl : r8 = rr := (congrArg Prod.fst hw).symm
        obtain rfl : u8 = uu := (congrArg Prod.snd hw).symm
        exact W.iret (v := r8) hx hb hr (fun t ht hW => ⟨⟨r8, u8, rfl, Option.some.inj hF, by rw [ht]; exact hP, va_K.moved hW.alike hK⟩, hS.F ht⟩) hS.2.2 dX5_product_42
      · replace hF := it_f c7 hF
        refine lv_iconst (v := 0) hx hb dX5_product_32 (by decide) ?_
        refine lv_goto (tgt := 42) hx hb dX5_product_33 (by decide) ?_
        exact W.iret (v := 0) hx hb hr (fun t ht hW => ⟨⟨0, (tw_sf u5 6 1), rfl, Option.some.inj hF, by rw [ht]; exact hP, va_K.moved hW.alike hK⟩, hS.F ht⟩) hS.2.2 dX5_product_42
    · replace hF := it_f c6 hF
      refine lv_iconst (v := 0) hx hb dX5_product_17 (by decide) ?_
      refine lv_goto (tgt := 22) hx hb dX5_product_18 (by decide) ?_
      refine va_put (D := (dC, dI)) (ci := 0) (v := .int 0) (ty := .int) (C := RX5) (T := TX5) (N := 28) hx hb hts in_X5 tyX5 tyX5_ok nmX5 hown hK hP hD hS 0 tw_g rfl 6 (by decide) (hts _ q1992) (fun _ h9 => h9) rfl (tyX5_ok 6 (by decide)) rfl rfl (Nat.le_of_ble_eq_true rfl) dX5_product_22 (fun H locs hP hD hS => ?_)
      rw [tw_p6] at hP hD
      refine lv_aload_n hx hb dX5_product_25 rfl (lv_at hl 0 rfl) ?_
      refine va_get (D := (dC, dI)) (ci := 0) (v := .int (((tw_sf u5 6 0)).1 6)) (C := RX5) (T := TX5) (N := 28) hx hb hts in_X5 hown hK hP 0 tw_g rfl 6 (by decide) (hts _ q1992) (fun _ h9 => h9) rfl dX5_product_26 ?_
      refine lv_if_le (tgt := 36) hx hb dX5_product_29 (by decide) (fun c9 => ?_) (fun c9 => ?_)
      · replace hF := it_t c9 hF
        refine lv_aload_n hx hb dX5_product_36 rfl (lv_at hl 0 rfl) ?_
        refine lv_iload_n hx hb dX5_product_37 rfl (lv_at hl 1 rfl) ?_
        refine lv_iload_n hx hb dX5_product_38 rfl (lv_at hl 2 rfl) ?_
        obtain ⟨r10, u10, e10, hF⟩ := bnd_s hF
        refine tw_calli (va_runV (As := [.int p1, .int p2]) (rest := []) ⟨hx, hb, hml, hown, hts⟩ (mt_productOf l dC dI cI cZ m0 ad H.size (tw_sf u5 6 0) n  p1 p2 _ e10) (cwV 2 hts (lw_V q2272 q2274 qs74 q125 q2275) rfl rfl rfl (by decide +kernel) ⟨Nat.le_of_ble_eq_true rfl, Nat.le_of_ble_eq_true rfl⟩) (tw_preV hK hP hD _) rfl rfl hl.1 rfl (lv_room (Nat.le_of_ble_eq_true rfl)) dX5_product_39 ⟨Nat.le_of_ble_eq_true rfl, Nat.le_of_ble_eq_true rfl⟩) hS hD hAA (fun rr uu H locs hw hP hD hS => ?_)
        obtain rfl : r10 = rr := (congrArg Prod.fst hw).symm
        obtain rfl : u10 = uu := (congrArg Prod.snd hw).symm
        exact W.iret (v := r10) hx hb hr (fun t ht hW => ⟨⟨r10, u10, rfl, Option.some.inj hF, by rw [ht]; exact hP, va_K.moved hW.alike hK⟩, hS.F ht⟩) hS.2.2 dX5_product_42
      · replace hF := it_f c9 hF
        refine lv_iconst (v := 0) hx hb dX5_product_32 (by decide) ?_
        refine lv_goto (tgt := 42) hx hb dX5_product_33 (by decide) ?_
        exact W.iret (v := 0) hx hb hr (fun t ht hW => ⟨⟨0, (tw_sf u5 6 0), rfl, Option.some.inj hF, by rw [ht]; exact hP, va_K.moved hW.alike hK⟩, hS.F ht⟩) hS.2.2 dX5_product_42

def F_skew_1 (R : Nat → Tw → Int32 → Int32 → Int32 → Option (Int32 × Tw)) (n : Nat) (σ : Tw) (x1 : Int32) (x2 : Int32) (x3 : Int32) : Option (Int32 × Tw) := gd (inB 5 162) (if ((σ).2 0 (5 : Int32).toNatClampNeg) ≤ x2 then some (x1, σ) else R 2 σ x1 x2 0)
def F_skew_2 (R : Nat → Tw → Int32 → Int32 → Int32 → Option (Int32 × Tw)) (n : Nat) (σ : Tw) (x1 : Int32) (x2 : Int32) (x3 : Int32) : Option (Int32 × Tw) := if x2 ≤ x3 then R 1 σ x1 (x2 + 1) x3 else bnd (F_productOf n σ x2 x3) (fun r4 u4 => if r4 = 0 then R 2 u4 (x1 + 0) x2 (x3 + 1) else R 2 u4 (x1 + 1) x2 (x3 + 1))
def F_skew_r : Nat → Nat → Tw → Int32 → Int32 → Int32 → Option (Int32 × Tw)
  | 0 => fun _ _ _ _ _ => none
  | n + 1 => fun k => match k with | 1 => F_skew_1 (F_skew_r n) n | _ => F_skew_2 (F_skew_r n) n
def F_skew_0 (R : Nat → Tw → Int32 → Int32 → Int32 → Option (Int32 × Tw)) (n : Nat) (σ : Tw) : Option (Int32 × Tw) := R 1 (tw_sf σ 6 0) 0 0 0
def F_skew (n : Nat) (σ : Tw) : Option (Int32 × Tw) := F_skew_0 (F_skew_r n) n σ 
set_option maxHeartbeats 4000000 in
set_option maxRecDepth 100000 in
theorem mt_skew (l : Launch) (dC : Nat → ClassId) (dI : Nat → Nat → Nat) (cI cZ : ClassId) (m0 : Nat) (ad : Nat → Nat) (sz : Nat) (σ : Tw) (n : Nat)  (out : Int32 × Tw) (hF : F_skew n σ  = some out) : Met l yX5_skew (ws_ yX5_skew cX5_skew 4 (some .int)) ({ frames := 3, cells := 0, slots := 0, locals := 67 }) (va_Pc [.ref m0] (tw_Pre dC dI cI cZ m0 ad sz σ)) (va_Qi (fun r u => (r, u) = out) (tw_B dC dI cI cZ m0 ad) (tw_A m0 ad sz)) 0 0 (tw_A m0 ad sz) := by
  refine Met.ofW (cc := cX5_skew) (maxL := 4) (ret := (some .int)) (by decide +kernel) rfl ?_
  intro p e s m args below meth c s₁ B hml hv
  obtain ⟨rfl, hsz, hP, hK, hD0⟩ := hv
  have hx := B.exec
  have hb := B.bytes
  have hr := B.returns
  have hts := atoms_spec (ws := (ws_ yX5_skew cX5_skew 4 (some .int))) B.pre
  have hts : ∀ w ∈ lw_all, w.before _ s = true := fun w h => hts w (List.mem_cons_of_mem _ h)
  have hown : s.vm.findClass RX5 = some m.cls := findClass_of_methodNamed B.named
  have hlocks := B.notSynchronized
  subst hsz
  have hD := tw_Ds (z := s.heap.size) hD0
  have hAA := fun z (h : s.heap.size ≤ z) => tw_Am (m0 := m0) (ad := ad) h
  generalize hAe : tw_A m0 ad s.heap.size = A at hD hAA ⊢
  have hS : va_S A s.heap s.heap [] := va_S.rf
  have hP : va_P (dC, dI) vwCl (tw_ws m0 ad cI cZ σ) s.heap := hP
  have hl := lv_entry ([.ref m0]) (n := 4) (Nat.le_of_ble_eq_true rfl)
  rw [lg_entry_eq]
  generalize (lg_sl ([.ref m0]) ++ List.replicate (4 - (lg_sl ([.ref m0])).length) Slot.unset).toArray = ls at hl ⊢
  have hl : lv_has ls 4 [(0, .ref m0)] := hl
  have loop : ∀ n : Nat, (∀ (σ : Tw) (x1 x2 x3 : Int32), F_skew_r n 1 σ x1 x2 x3 = some out → ∀ (H : Heap) (locs : List Loc), va_P (dC, dI) vwCl (tw_ws m0 ad cI cZ σ) H → va_D A (tw_ws m0 ad cI cZ σ) → va_S A s.heap H locs → ∀ ls : Array Slot, lv_has ls 4 [(0, .ref m0), (1, .int x1), (2, .int x2)] → W p l e (headSpec (ws_ yX5_skew cX5_skew 4 (some .int)) ({ frames := 3, cells := 0, slots := 0, locals := 67 })).room s m ([.ref m0] : List Value).toArray below meth c H locs 0 0 (MQ below (va_Qi (fun r u => (r, u) = out) (tw_B dC dI cI cZ m0 ad) A) ([.ref m0] : List Value).toArray s 0 0 A) (F0 m 9 ls [])) ∧ (∀ (σ : Tw) (x1 x2 x3 : Int32), F_skew_r n 2 σ x1 x2 x3 = some out → ∀ (H : Heap) (locs : List Loc), va_P (dC, dI) vwCl (tw_ws m0 ad cI cZ σ) H → va_D A (tw_ws m0 ad cI cZ σ) → va_S A s.heap H locs → ∀ ls : Array Slot, lv_has ls 4 [(0, .ref m0), (1, .int x1), (2, .int x2), (3, .int x3)] → W p l e (headSpec (ws_ yX5_skew cX5_skew 4 (some .int)) ({ frames := 3, cells := 0, slots := 0, locals := 67 })).room s m ([.ref m0] : List Value).toArray below meth c H locs 0 0 (MQ below (va_Qi (fun r u => (r, u) = out) (tw_B dC dI cI cZ m0 ad) A) ([.ref m0] : List Value).toArray s 0 0 A) (F0 m 21 ls [])) := by
    intro n
    induction n with
    | zero => exact ⟨(fun _ _ _ _ h => nomatch h), (fun _ _ _ _ h => nomatch h)⟩
    | succ n ih =>
      obtain ⟨lp1, lp2⟩ := ih
      refine ⟨?_, ?_⟩
      · intro σ x1 x2 x3 hF H locs hP hD hS ls hl
        replace hF : F_skew_1 (F_skew_r n) n σ x1 x2 x3 = some out := hF
        unfold F_skew_1 at hF
        refine lv_iload_n hx hb dX5_skew_9 rfl (lv_at hl 2 rfl) ?_
        refine lv_aload_n hx hb dX5_skew_10 rfl (lv_at hl 0 rfl) ?_
        refine va_get (D := (dC, dI)) (ci := 0) (v := .ref (ad 0)) (C := RX5) (T := TX5) (N := 28) hx hb hts in_X5 hown hK hP 0 tw_g rfl 0 (by decide) (hts _ q1986) (fun _ h9 => h9) rfl dX5_skew_11 ?_
        refine lv_iconst (v := 5) hx hb dX5_skew_14 (by decide) ?_
        obtain ⟨g1, hF⟩ := gd_s hF
        refine va_iald hx hb hK hP 1 0 tw_e0 rfl (inB_in g1) dX5_skew_15 ?_
        refine lv_icmp_ge (tgt := 55) hx hb dX5_skew_16 (by decide) (fun c2 => ?_) (fun c2 => ?_)
        · replace hF := it_t c2 hF
          refine lv_iload_n hx hb dX5_skew_55 rfl (lv_at hl 1 rfl) ?_
          exact W.iret (v := x1) hx hb hr (fun t ht hW => ⟨⟨x1, σ, rfl, Option.some.inj hF, by rw [ht]; exact hP, va_K.moved hW.alike hK⟩, hS.F ht⟩) hS.2.2 dX5_skew_56
        · replace hF := it_f c2 hF
          refine lv_iconst (v := 0) hx hb dX5_skew_19 (by decide) ?_
          refine lv_istore_n (lv' := [(3, .int 0), (0, .ref m0), (1, .int x1), (2, .int x2)]) hx hb dX5_skew_20 rfl hl (by decide) rfl (fun ls hl => ?_)
          exact lp2 σ x1 x2 0 hF _ _ hP hD hS ls (lv_sub hl [1, 2, 3, 0] rfl)
      · intro σ x1 x2 x3 hF H locs hP hD hS ls hl
        replace hF : F_skew_2 (F_skew_r n) n σ x1 x2 x3 = some out := hF
        unfold F_skew_2 at hF
        refine lv_iload_n hx hb dX5_skew_21 rfl (lv_at hl 3 rfl) ?_
        refine lv_iload_n hx hb dX5_skew_22 rfl (lv_at hl 2 rfl) ?_
        refine lv_icmp_ge (tgt := 49) hx hb dX5_skew_23 (by decide) (fun c3 => ?_) (fun c3 => ?_)
        · replace hF := it_t c3 hF
          refine lv_iinc (v := (x2 + 1)) (lv' := [(2, .int (x2 + 1)), (0, .ref m0), (1, .int x1), (3, .int x3)]) hx hb dX5_skew_49 hl (k := 2) rfl rfl (by decide) rfl (fun ls hl => ?_)
          refine lv_goto (tgt := 9) hx hb dX5_skew_52 (by decide) ?_
          exact lp1 σ x1 (x2 + 1) x3 hF _ _ hP hD hS ls (lv_sub hl [1, 2, 0] rfl)
        · replace hF := it_f c3 hF
          refine lv_iload_n hx hb dX5_skew_26 rfl (lv_at hl 1 rfl) ?_
          refine lv_aload_n hx hb dX5_skew_27 rfl (lv_at hl 0 rfl) ?_
          refine lv_iload_n hx hb dX5_skew_28 rfl (lv_at hl 2 rfl) ?_
          refine lv_iload_n hx hb dX5_skew_29 rfl (lv_at hl 3 rfl) ?_
          obtain ⟨r4, u4, e4, hF⟩ := bnd_s hF
          refine tw_calli (va_runV (As := [.int x2, .int x3]) (rest := [.int x1]) ⟨hx, hb, hml, hown, hts⟩ (mt_productOf l dC dI cI cZ m0 ad H.size σ n  x2 x3 _ e4) (cwV 2 hts (lw_V q2272 q2274 qs74 q125 q2275) rfl rfl rfl (by decide +kernel) ⟨Nat.le_of_ble_eq_true rfl, Nat.le_of_ble_eq_true rfl⟩) (tw_preV hK hP hD _) rfl rfl hl.1 rfl (lv_room (Nat.le_of_ble_eq_true rfl)) dX5_skew_30 ⟨Nat.le_of_ble_eq_true rfl, Nat.le_of_ble_eq_true rfl⟩) hS hD hAA (fun rr uu H locs hw hP hD hS => ?_)
          obtain rfl : r4 = rr := (congrArg Prod.fst hw).symm
          obtain rfl : u4 = uu := (congrArg Prod.snd hw).symm
          refine lv_if_ne (tgt := 40) hx hb dX5_skew_33 (by decide) (fun c5 => ?_) (fun c5 => ?_)
          · replace hF := it_f c5 hF
            refine lv_iconst (v := 1) hx hb dX5_skew_40 (by decide) ?_
            refine lv_iadd hx hb dX5_skew_41 ?_
            refine lv_istore_n (lv' := [(1, .int (x1 + 1)), (0, .ref m0), (2, .int x2), (3, .int x3)]) hx hb dX5_skew_42 rfl hl (by decide) rfl (fun ls hl => ?_)
            refine lv_iinc (v := (x3 + 1)) (lv' := [(3, .int (x3 + 1)), (1, .int (x1 + 1)), (0, .ref m0), (2, .int x2)]) hx hb dX5_skew_43 hl (k := 3) rfl rfl (by decide) rfl (fun ls hl => ?_)
            refine lv_goto (tgt := 21) hx hb dX5_skew_46 (by decide) ?_
            exact lp2 u4 (x1 + 1) x2 (x3 + 1) hF _ _ hP hD hS ls (lv_sub hl [2, 1, 3, 0] rfl)
          · replace hF := it_t c5 hF
            refine lv_iconst (v := 0) hx hb dX5_skew_36 (by decide) ?_
            refine lv_goto (tgt := 41) hx hb dX5_skew_37 (by decide) ?_
            refine lv_iadd hx hb dX5_skew_41 ?_
            refine lv_istore_n (lv' := [(1, .int (x1 + 0)), (0, .ref m0), (2, .int x2), (3, .int x3)]) hx hb dX5_skew_42 rfl hl (by decide) rfl (fun ls hl => ?_)
            refine lv_iinc (v := (x3 + 1)) (lv' := [(3, .int (x3 + 1)), (1, .int (x1 + 0)), (0, .ref m0), (2, .int x2)]) hx hb dX5_skew_43 hl (k := 3) rfl rfl (by decide) rfl (fun ls hl => ?_)
            refine lv_goto (tgt := 21) hx hb dX5_skew_46 (by decide) ?_
            exact lp2 u4 (x1 + 0) x2 (x3 + 1) hF _ _ hP hD hS ls (lv_sub hl [2, 1, 3, 0] rfl)
  obtain ⟨lp1, lp2⟩ := loop n
  unfold F_skew F_skew_0 at hF
  refine lv_aload_n hx hb dX5_skew_0 rfl (lv_at hl 0 rfl) ?_
  refine lv_iconst (v := 0) hx hb dX5_skew_1 (by decide) ?_
  refine va_put (D := (dC, dI)) (ci := 0) (v := .int 0) (ty := .int) (C := RX5) (T := TX5) (N := 28) hx hb hts in_X5 tyX5 tyX5_ok nmX5 hown hK hP hD hS 0 tw_g rfl 6 (by decide) (hts _ q1992) (fun _ h9 => h9) rfl (tyX5_ok 6 (by decide)) rfl rfl (Nat.le_of_ble_eq_true rfl) dX5_skew_2 (fun H locs hP hD hS => ?_)
  rw [tw_p6] at hP hD
  refine lv_iconst (v := 0) hx hb dX5_skew_5 (by decide) ?_
  refine lv_istore_n (lv' := [(1, .int 0), (0, .ref m0)]) hx hb dX5_skew_6 rfl hl (by decide) rfl (fun ls hl => ?_)
  refine lv_iconst (v := 0) hx hb dX5_skew_7 (by decide) ?_
  refine lv_istore_n (lv' := [(2, .int 0), (1, .int 0), (0, .ref m0)]) hx hb dX5_skew_8 rfl hl (by decide) rfl (fun ls hl => ?_)
  exact lp1 (tw_sf σ 6 0) 0 0 0 hF _ _ hP hD hS ls (lv_sub hl [2, 1, 0] rfl)

def F_exchanges_1 (R : Nat → Tw → Int32 → Int32 → Int32 → Int32 → Option (Int32 × Tw)) (n : Nat) (σ : Tw) (x1 : Int32) (x2 : Int32) (x3 : Int32) (x4 : Int32) : Option (Int32 × Tw) := if 9 ≤ x3 then some (0, σ) else gd (inB ((9 * x1) + x3) 72) (gd (inB ((9 * x2) + x3) 72) (gd (inB ((9 * x1) + x3) 72) (gd (inB ((9 * x2) + x3) 72) (R 1 (tw_sa (tw_sa σ 24 (((9 * x1) + x3)).toNatClampNeg ((σ).2 24 (((9 * x2) + x3)).toNatClampNeg)) 24 (((9 * x2) + x3)).toNatClampNeg ((σ).2 24 (((9 * x1) + x3)).toNatClampNeg)) x1 x2 (x3 + 1) ((σ).2 24 (((9 * x1) + x3)).toNatClampNeg)))))
def F_exchanges_r : Nat → Nat → Tw → Int32 → Int32 → Int32 → Int32 → Option (Int32 × Tw)
  | 0 => fun _ _ _ _ _ _ => none
  | n + 1 => fun k => match k with  | _ => F_exchanges_1 (F_exchanges_r n) n
def F_exchanges_0 (R : Nat → Tw → Int32 → Int32 → Int32 → Int32 → Option (Int32 × Tw)) (n : Nat) (σ : Tw) (p1 : Int32) (p2 : Int32) : Option (Int32 × Tw) := R 1 σ p1 p2 0 0
def F_exchanges (n : Nat) (σ : Tw) (p1 : Int32) (p2 : Int32) : Option (Int32 × Tw) := F_exchanges_0 (F_exchanges_r n) n σ p1 p2
set_option maxHeartbeats 4000000 in
set_option maxRecDepth 100000 in
theorem mt_exchanges (l : Launch) (dC : Nat → ClassId) (dI : Nat → Nat → Nat) (cI cZ : ClassId) (m0 : Nat) (ad : Nat → Nat) (sz : Nat) (σ : Tw) (n : Nat)  (p1 : Int32) (p2 : Int32) (out : Int32 × Tw) (hF : F_exchanges n σ p1 p2 = some out) : Met l yX5_exchanges (ws_ yX5_exchanges cX5_exchanges 5 none) ({ frames := 0, cells := 0, slots := 0, locals := 0 }) (va_Pc [.ref m0, .int p1, .int p2] (tw_Pre dC dI cI cZ m0 ad sz σ)) (va_Qv (fun u => (0, u) = out) (tw_B dC dI cI cZ m0 ad) (tw_A m0 ad sz)) 0 0 (tw_A m0 ad sz) := by
  refine Met.ofW (cc := cX5_exchanges) (maxL := 5) (ret := none) (by decide +kernel) rfl ?_
  intro p e s m args below meth c s₁ B hml hv
  obtain ⟨rfl, hsz, hP, hK, hD0⟩ := hv
  have hx := B.exec
  have hb := B.bytes
  have hr := B.returns
  have hts := atoms_spec (ws := (ws_ yX5_exchanges cX5_exchanges 5 none)) B.pre
  have hts : ∀ w ∈ lw_all, w.before _ s = true := fun w h => hts w (List.mem_cons_of_mem _ h)
  have hown : s.vm.findClass RX5 = some m.cls := findClass_of_methodNamed B.named
  have hlocks := B.notSynchronized
  subst hsz
  have hD := tw_Ds (z := s.heap.size) hD0
  have hAA := fun z (h : s.heap.size ≤ z) => tw_Am (m0 := m0) (ad := ad) h
  generalize hAe : tw_A m0 ad s.heap.size = A at hD hAA ⊢
  have hS : va_S A s.heap s.heap [] := va_S.rf
  have hP : va_P (dC, dI) vwCl (tw_ws m0 ad cI cZ σ) s.heap := hP
  have hl := lv_entry ([.ref m0, .int p1, .int p2]) (n := 5) (Nat.le_of_ble_eq_true rfl)
  rw [lg_entry_eq]
  generalize (lg_sl ([.ref m0, .int p1, .int p2]) ++ List.replicate (5 - (lg_sl ([.ref m0, .int p1, .int p2])).length) Slot.unset).toArray = ls at hl ⊢
  have hl : lv_has ls 5 [(0, .ref m0), (1, .int p1), (2, .int p2)] := hl
  have loop : ∀ n : Nat, (∀ (σ : Tw) (x1 x2 x3 x4 : Int32), F_exchanges_r n 1 σ x1 x2 x3 x4 = some out → ∀ (H : Heap) (locs : List Loc), va_P (dC, dI) vwCl (tw_ws m0 ad cI cZ σ) H → va_D A (tw_ws m0 ad cI cZ σ) → va_S A s.heap H locs → ∀ ls : Array Slot, lv_has ls 5 [(0, .ref m0), (1, .int x1), (2, .int x2), (3, .int x3)] → W p l e (headSpec (ws_ yX5_exchanges cX5_exchanges 5 none) ({ frames := 0, cells := 0, slots := 0, locals := 0 })).room s m ([.ref m0, .int p1, .int p2] : List Value).toArray below meth c H locs 0 0 (MQ below (va_Qv (fun u => (0, u) = out) (tw_B dC dI cI cZ m0 ad) A) ([.ref m0, .int p1, .int p2] : List Value).toArray s 0 0 A) (F0 m 2 ls [])) := by
    intro n
    induction n with
    | zero => exact (fun _ _ _ _ _ h => nomatch h)
    | succ n ih =>
      have lp1 := ih
      intro σ x1 x2 x3 x4 hF H locs hP hD hS ls hl
      replace hF : F_exchanges_1 (F_exchanges_r n) n σ x1 x2 x3 x4 = some out := hF
      unfold F_exchanges_1 at hF
      refine lv_iload_n hx hb dX5_exchanges_2 rfl (lv_at hl 3 rfl) ?_
      refine lv_bipush (v := 9) hx hb dX5_exchanges_3 (by decide) ?_
      refine lv_icmp_ge (tgt := 62) hx hb dX5_exchanges_5 (by decide) (fun c1 => ?_) (fun c1 => ?_)
      · replace hF := it_t c1 hF
        exact W.vret hx hb hr (fun t ht hW => ⟨⟨σ, rfl, Option.some.inj hF, by rw [ht]; exact hP, va_K.moved hW.alike hK⟩, hS.F ht⟩) hS.2.2 dX5_exchanges_62
      · replace hF := it_f c1 hF
        refine lv_aload_n hx hb dX5_exchanges_8 rfl (lv_at hl 0 rfl) ?_
        refine va_get (D := (dC, dI)) (ci := 0) (v := .ref (ad 24)) (C := RX5) (T := TX5) (N := 28) hx hb hts in_X5 hown hK hP 0 tw_g rfl 24 (by decide) (hts _ q2010) (fun _ h9 => h9) rfl dX5_exchanges_9 ?_
        refine lv_bipush (v := 9) hx hb dX5_exchanges_12 (by decide) ?_
        refine lv_iload_n hx hb dX5_exchanges_14 rfl (lv_at hl 1 rfl) ?_
        refine lv_imul hx hb dX5_exchanges_15 ?_
        refine lv_iload_n hx hb dX5_exchanges_16 rfl (lv_at hl 3 rfl) ?_
        refine lv_iadd hx hb dX5_exchanges_17 ?_
        obtain ⟨g2, hF⟩ := gd_s hF
        refine va_iald hx hb hK hP 13 0 tw_e24 rfl (inB_in g2) dX5_exchanges_18 ?_
        refine lv_istore (lv' := [(4, .int ((σ).2 24 (((9 * x1) + x3)).toNatClampNeg)), (0, .ref m0), (1, .int x1), (2, .int x2), (3, .int x3)]) hx hb dX5_exchanges_19 hl (by decide) rfl (fun ls hl => ?_)
        refine lv_aload_n hx hb dX5_exchanges_21 rfl (lv_at hl 1 rfl) ?_
        refine va_get (D := (dC, dI)) (ci := 0) (v := .ref (ad 24)) (C := RX5) (T := TX5) (N := 28) hx hb hts in_X5 hown hK hP 0 tw_g rfl 24 (by decide) (hts _ q2010) (fun _ h9 => h9) rfl dX5_exchanges_22 ?_
        refine lv_bipush (v := 9) hx hb dX5_exchanges_25 (by decide) ?_
        refine lv_iload_n hx hb dX5_exchanges_27 rfl (lv_at hl 2 rfl) ?_
        refine lv_imul hx hb dX5_exchanges_28 ?_
        refine lv_iload_n hx hb dX5_exchanges_29 rfl (lv_at hl 4 rfl) ?_
        refine lv_iadd hx hb dX5_exchanges_30 ?_
        refine lv_aload_n hx hb dX5_exchanges_31 rfl (lv_at hl 1 rfl) ?_
        refine va_get (D := (dC, dI)) (ci := 0) (v := .ref (ad 24)) (C := RX5) (T := TX5) (N := 28) hx hb hts in_X5 hown hK hP 0 tw_g rfl 24 (by decide) (hts _ q2010) (fun _ h9 => h9) rfl dX5_exchanges_32 ?_
        refine lv_bipush (v := 9) hx hb dX5_exchanges_35 (by decide) ?_
        refine lv_iload_n hx hb dX5_exchanges_37 rfl (lv_at hl 3 rfl) ?_
        refine lv_imul hx hb dX5_exchanges_38 ?_
        refine lv_iload_n hx hb dX5_exchanges_39 rfl (lv_at hl 4 rfl) ?_
        refine lv_iadd hx hb dX5_exchanges_40 ?_
        obtain ⟨g3, hF⟩ := gd_s hF
        refine va_iald hx hb hK hP 13 0 tw_e24 rfl (inB_in g3) dX5_exchanges_41 ?_
        obtain ⟨g4, hF⟩ := gd_s hF
        refine va_iast hx hb hK hP hD hS 13 0 tw_e24 rfl (x := ((σ).2 24 (((9 * x2) + x3)).toNatClampNeg)) (inB_in g4) dX5_exchanges_42 (fun H locs hP hD hS => ?_)
        rw [tw_s24] at hP hD
        refine lv_aload_n hx hb dX5_exchanges_43 rfl (lv_at hl 1 rfl) ?_
        refine va_get (D := (dC, dI)) (ci := 0) (v := .ref (ad 24)) (C := RX5) (T := TX5) (N := 28) hx hb hts in_X5 hown hK hP 0 tw_g rfl 24 (by decide) (hts _ q2010) (fun _ h9 => h9) rfl dX5_exchanges_44 ?_
        refine lv_bipush (v := 9) hx hb dX5_exchanges_47 (by decide) ?_
        refine lv_iload_n hx hb dX5_exchanges_49 rfl (lv_at hl 3 rfl) ?_
        refine lv_imul hx hb dX5_exchanges_50 ?_
        refine lv_iload_n hx hb dX5_exchanges_51 rfl (lv_at hl 4 rfl) ?_
        refine lv_iadd hx hb dX5_exchanges_52 ?_
        refine lv_iload hx hb dX5_exchanges_53 (lv_at hl 0 rfl) ?_
        obtain ⟨g5, hF⟩ := gd_s hF
        refine va_iast hx hb hK hP hD hS 13 0 tw_e24 rfl (x := ((σ).2 24 (((9 * x1) + x3)).toNatClampNeg)) (inB_in g5) dX5_exchanges_55 (fun H locs hP hD hS => ?_)
        rw [tw_s24] at hP hD
        refine lv_iinc (v := (x3 + 1)) (lv' := [(3, .int (x3 + 1)), (4, .int ((σ).2 24 (((9 * x1) + x3)).toNatClampNeg)), (0, .ref m0), (1, .int x1), (2, .int x2)]) hx hb dX5_exchanges_56 hl (k := 4) rfl rfl (by decide) rfl (fun ls hl => ?_)
        refine lv_goto (tgt := 2) hx hb dX5_exchanges_59 (by decide) ?_
        exact lp1 (tw_sa (tw_sa σ 24 (((9 * x1) + x3)).toNatClampNeg ((σ).2 24 (((9 * x2) + x3)).toNatClampNeg)) 24 (((9 * x2) + x3)).toNatClampNeg ((σ).2 24 (((9 * x1) + x3)).toNatClampNeg)) x1 x2 (x3 + 1) ((σ).2 24 (((9 * x1) + x3)).toNatClampNeg) hF _ _ hP hD hS ls (lv_sub hl [2, 3, 4, 0] rfl)
  have lp1 := loop n
  unfold F_exchanges F_exchanges_0 at hF
  refine lv_iconst (v := 0) hx hb dX5_exchanges_0 (by decide) ?_
  refine lv_istore_n (lv' := [(3, .int 0), (0, .ref m0), (1, .int p1), (2, .int p2)]) hx hb dX5_exchanges_1 rfl hl (by decide) rfl (fun ls hl => ?_)
  exact lp1 σ p1 p2 0 0 hF _ _ hP hD hS ls (lv_sub hl [1, 2, 3, 0] rfl)
