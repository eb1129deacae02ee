/-! the component and what it calls of the library, walked by program (tool/dc.py): G.. the pure function, mo.. its growth, mg.. the contract -/
def GX2_lambda_sets_0 (h : Hp) (a0 : Nat) (p1 : Int32) (p2 : Int32) (p3 : Int32) (p4 : Int32) (p5 : Int32) : Option (Int32 × Hp) := if p4 = p1 then if p5 = p2 then some (p3, h) else if p4 = p2 then if p5 = p1 then some (p3, h) else gQ h a0 2 2 (fun x16_ => aQ h x16_ 4 p4 (fun x17_ => aI h x17_ 0 p5 (fun x18_ => some (x18_, h)))) else gQ h a0 2 2 (fun x12_ => aQ h x12_ 4 p4 (fun x13_ => aI h x13_ 0 p5 (fun x14_ => some (x14_, h)))) else if p4 = p2 then if p5 = p1 then some (p3, h) else gQ h a0 2 2 (fun x7_ => aQ h x7_ 4 p4 (fun x8_ => aI h x8_ 0 p5 (fun x9_ => some (x9_, h)))) else gQ h a0 2 2 (fun x3_ => aQ h x3_ 4 p4 (fun x4_ => aI h x4_ 0 p5 (fun x5_ => some (x5_, h))))
theorem moX2_lambda_sets_0 (h : Hp) (a0 : Nat) (p1 : Int32) (p2 : Int32) (p3 : Int32) (p4 : Int32) (p5 : Int32) : Mo h (GX2_lambda_sets_0 h a0 p1 p2 p3 p4 p5) := by
  unfold GX2_lambda_sets_0
  exact mo_ite (mo_ite (mo_ret hle_rf) (mo_ite (mo_ite (mo_ret hle_rf) (mo_gQ (fun x16_ => mo_aQ (fun x17_ => mo_aI (fun x18_ => mo_ret hle_rf))))) (mo_gQ (fun x12_ => mo_aQ (fun x13_ => mo_aI (fun x14_ => mo_ret hle_rf)))))) (mo_ite (mo_ite (mo_ret hle_rf) (mo_gQ (fun x7_ => mo_aQ (fun x8_ => mo_aI (fun x9_ => mo_ret hle_rf))))) (mo_gQ (fun x3_ => mo_aQ (fun x4_ => mo_aI (fun x5_ => mo_ret hle_rf)))))
set_option maxHeartbeats 4000000 in
set_option maxRecDepth 100000 in
theorem mgX2_lambda_sets_0 (l : Launch) (D : HD) (A : Nat → Prop) (h : Hp) (a0 : Nat) (p1 : Int32) (p2 : Int32) (p3 : Int32) (p4 : Int32) (p5 : Int32) (out : Int32 × Hp) (hF : GX2_lambda_sets_0 h a0 p1 p2 p3 p4 p5 = some out) (mc ms : Nat) (hmc : hCc out.2 = hCc h + mc) (hms : hSl out.2 = hSl h + ms) : Met l yX2_lambda_sets_0 (ws_ yX2_lambda_sets_0 cX2_lambda_sets_0 6 (some .int)) ({ frames := 0, cells := mc, slots := ms, locals := 0 }) (va_Pc [.ref a0, .int p1, .int p2, .int p3, .int p4, .int p5] (hW D A h)) (va_Qi (fun r u => (r, u) = out) (hW D A) A) mc ms A := by
  refine Met.ofW (cc := cX2_lambda_sets_0) (maxL := 6) (ret := (some .int)) (by decide +kernel) rfl ?_
  intro p e s m args below meth c s₁ B hml hv
  obtain ⟨rfl, hr, hGr⟩ := hv
  have hx := B.exec
  have hb := B.bytes
  have hret := B.returns
  have hts := atoms_spec (ws := (ws_ yX2_lambda_sets_0 cX2_lambda_sets_0 6 (some .int))) B.pre
  have hts : ∀ w ∈ lw_all, w.before _ s = true := fun w h => hts w (List.mem_cons_of_mem _ h)
  have hown : s.vm.findClass RX2 = some m.cls := findClass_of_methodNamed B.named
  have hlocks := B.notSynchronized
  have hS : va_S A s.heap s.heap [] := va_S.rf
  have hc : cst h 0 0 h := cst_0
  have hl := lv_entry ([.ref a0, .int p1, .int p2, .int p3, .int p4, .int p5]) (n := 6) (Nat.le_of_ble_eq_true rfl)
  rw [lg_entry_eq]
  generalize (lg_sl ([.ref a0, .int p1, .int p2, .int p3, .int p4, .int p5]) ++ List.replicate (6 - (lg_sl ([.ref a0, .int p1, .int p2, .int p3, .int p4, .int p5])).length) Slot.unset).toArray = ls at hl ⊢
  have hl : lv_has ls 6 [(0, .ref a0), (1, .int p1), (2, .int p2), (3, .int p3), (4, .int p4), (5, .int p5)] := hl
  unfold GX2_lambda_sets_0 at hF
  refine lv_iload hx hb dX2_lambda_sets_0_0 (lv_at hl 4 rfl) ?_
  refine lv_iload_n hx hb dX2_lambda_sets_0_2 rfl (lv_at hl 1 rfl) ?_
  refine lv_icmp_ne (tgt := 12) hx hb dX2_lambda_sets_0_3 (by decide) (fun c1 => ?_) (fun c1 => ?_)
  · replace hF := it_f c1 hF
    refine lv_iload hx hb dX2_lambda_sets_0_12 (lv_at hl 4 rfl) ?_
    refine lv_iload_n hx hb dX2_lambda_sets_0_14 rfl (lv_at hl 2 rfl) ?_
    refine lv_icmp_ne (tgt := 28) hx hb dX2_lambda_sets_0_15 (by decide) (fun c2 => ?_) (fun c2 => ?_)
    · replace hF := it_f c2 hF
      refine lv_aload_n hx hb dX2_lambda_sets_0_28 rfl (lv_at hl 0 rfl) ?_
      obtain ⟨fs3, x3_, e3, f3, hF⟩ := gQ_s hF
      refine h_get (C := RX2) (T := TX2) (N := 11) hx hb hts in_X2 hown hGr hr e3 (by decide) rfl 2 (by decide) (hts _ q568) (fun _ h9 => h9) f3 dX2_lambda_sets_0_29 ?_
      refine lv_iload hx hb dX2_lambda_sets_0_32 (lv_at hl 4 rfl) ?_
      obtain ⟨n4, f4, x4_, e4, g4, ex4, hF⟩ := aQ_s hF
      refine h_aald hx hb hGr hr (by decide) e4 g4 dX2_lambda_sets_0_34 (v := .ref x4_) (by rw [ex4]; rfl) ?_
      refine lv_iload hx hb dX2_lambda_sets_0_35 (lv_at hl 5 rfl) ?_
      obtain ⟨n5, f5, e5, g5, hF⟩ := aI_s hF
      obtain ⟨x5_, ex5⟩ : ∃ z, z = f5 (p5).toNatClampNeg := ⟨_, rfl⟩
      rw [← ex5] at hF
      refine h_iald hx hb hGr hr 0 rfl e5 g5 dX2_lambda_sets_0_37 ?_
      rw [← ex5]
      have bz := bud_r hc hF hmc hms
      refine W.widen (k := mc) (n := ms) bz.1 bz.2 ?_
      exact W.iret (v := x5_) hx hb hret (fun t ht hWm => ⟨⟨x5_, h, rfl, Option.some.inj hF, h_end hGr hr hS ht hWm⟩, hS.F ht⟩) hS.2.2 dX2_lambda_sets_0_38
    · replace hF := it_t c2 hF
      refine lv_iload hx hb dX2_lambda_sets_0_18 (lv_at hl 5 rfl) ?_
      refine lv_iload_n hx hb dX2_lambda_sets_0_20 rfl (lv_at hl 1 rfl) ?_
      refine lv_icmp_ne (tgt := 28) hx hb dX2_lambda_sets_0_21 (by decide) (fun c6 => ?_) (fun c6 => ?_)
      · replace hF := it_f c6 hF
        refine lv_aload_n hx hb dX2_lambda_sets_0_28 rfl (lv_at hl 0 rfl) ?_
        obtain ⟨fs7, x7_, e7, f7, hF⟩ := gQ_s hF
        refine h_get (C := RX2) (T := TX2) (N := 11) hx hb hts in_X2 hown hGr hr e7 (by decide) rfl 2 (by decide) (hts _ q568) (fun _ h9 => h9) f7 dX2_lambda_sets_0_29 ?_
        refine lv_iload hx hb dX2_lambda_sets_0_32 (lv_at hl 4 rfl) ?_
        obtain ⟨n8, f8, x8_, e8, g8, ex8, hF⟩ := aQ_s hF
        refine h_aald hx hb hGr hr (by decide) e8 g8 dX2_lambda_sets_0_34 (v := .ref x8_) (by rw [ex8]; rfl) ?_
        refine lv_iload hx hb dX2_lambda_sets_0_35 (lv_at hl 5 rfl) ?_
        obtain ⟨n9, f9, e9, g9, hF⟩ := aI_s hF
        obtain ⟨x9_, ex9⟩ : ∃ z, z = f9 (p5).toNatClampNeg := ⟨_, rfl⟩
        rw [← ex9] at hF
        refine h_iald hx hb hGr hr 0 rfl e9 g9 dX2_lambda_sets_0_37 ?_
        rw [← ex9]
        have bz := bud_r hc hF hmc hms
        refine W.widen (k := mc) (n := ms) bz.1 bz.2 ?_
        exact W.iret (v := x9_) hx hb hret (fun t ht hWm => ⟨⟨x9_, h, rfl, Option.some.inj hF, h_end hGr hr hS ht hWm⟩, hS.F ht⟩) hS.2.2 dX2_lambda_sets_0_38
      · replace hF := it_t c6 hF
        refine lv_iload_n hx hb dX2_lambda_sets_0_24 rfl (lv_at hl 3 rfl) ?_
        refine lv_goto (tgt := 38) hx hb dX2_lambda_sets_0_25 (by decide) ?_
        have bz := bud_r hc hF hmc hms
        refine W.widen (k := mc) (n := ms) bz.1 bz.2 ?_
        exact W.iret (v := p3) hx hb hret (fun t ht hWm => ⟨⟨p3, h, rfl, Option.some.inj hF, h_end hGr hr hS ht hWm⟩, hS.F ht⟩) hS.2.2 dX2_lambda_sets_0_38
  · replace hF := it_t c1 hF
    refine lv_iload hx hb dX2_lambda_sets_0_6 (lv_at hl 5 rfl) ?_
    refine lv_iload_n hx hb dX2_lambda_sets_0_8 rfl (lv_at hl 2 rfl) ?_
    refine lv_icmp_eq (tgt := 24) hx hb dX2_lambda_sets_0_9 (by decide) (fun c10 => ?_) (fun c10 => ?_)
    · replace hF := it_t c10 hF
      refine lv_iload_n hx hb dX2_lambda_sets_0_24 rfl (lv_at hl 3 rfl) ?_
      refine lv_goto (tgt := 38) hx hb dX2_lambda_sets_0_25 (by decide) ?_
      have bz := bud_r hc hF hmc hms
      refine W.widen (k := mc) (n := ms) bz.1 bz.2 ?_
      exact W.iret (v := p3) hx hb hret (fun t ht hWm => ⟨⟨p3, h, rfl, Option.some.inj hF, h_end hGr hr hS ht hWm⟩, hS.F ht⟩) hS.2.2 dX2_lambda_sets_0_38
    · replace hF := it_f c10 hF
      refine lv_iload hx hb dX2_lambda_sets_0_12 (lv_at hl 4 rfl) ?_
      refine lv_iload_n hx hb dX2_lambda_sets_0_14 rfl (lv_at hl 2 rfl) ?_
      refine lv_icmp_ne (tgt := 28) hx hb dX2_lambda_sets_0_15 (by decide) (fun c11 => ?_) (fun c11 => ?_)
      · replace hF := it_f c11 hF
        refine lv_aload_n hx hb dX2_lambda_sets_0_28 rfl (lv_at hl 0 rfl) ?_
        obtain ⟨fs12, x12_, e12, f12, hF⟩ := gQ_s hF
        refine h_get (C := RX2) (T := TX2) (N := 11) hx hb hts in_X2 hown hGr hr e12 (by decide) rfl 2 (by decide) (hts _ q568) (fun _ h9 => h9) f12 dX2_lambda_sets_0_29 ?_
        refine lv_iload hx hb dX2_lambda_sets_0_32 (lv_at hl 4 rfl) ?_
        obtain ⟨n13, f13, x13_, e13, g13, ex13, hF⟩ := aQ_s hF
        refine h_aald hx hb hGr hr (by decide) e13 g13 dX2_lambda_sets_0_34 (v := .ref x13_) (by rw [ex13]; rfl) ?_
        refine lv_iload hx hb dX2_lambda_sets_0_35 (lv_at hl 5 rfl) ?_
        obtain ⟨n14, f14, e14, g14, hF⟩ := aI_s hF
        obtain ⟨x14_, ex14⟩ : ∃ z, z = f14 (p5).toNatClampNeg := ⟨_, rfl⟩
        rw [← ex14] at hF
        refine h_iald hx hb hGr hr 0 rfl e14 g14 dX2_lambda_sets_0_37 ?_
        rw [← ex14]
        have bz := bud_r hc hF hmc hms
        refine W.widen (k := mc) (n := ms) bz.1 bz.2 ?_
        exact W.iret (v := x14_) hx hb hret (fun t ht hWm => ⟨⟨x14_, h, rfl, Option.some.inj hF, h_end hGr hr hS ht hWm⟩, hS.F ht⟩) hS.2.2 dX2_lambda_sets_0_38
      · replace hF := it_t c11 hF
        refine lv_iload hx hb dX2_lambda_sets_0_18 (lv_at hl 5 rfl) ?_
        refine lv_iload_n hx hb dX2_lambda_sets_0_20 rfl (lv_at hl 1 rfl) ?_
        refine lv_icmp_ne (tgt := 28) hx hb dX2_lambda_sets_0_21 (by decide) (fun c15 => ?_) (fun c15 => ?_)
        · replace hF := it_f c15 hF
          refine lv_aload_n hx hb dX2_lambda_sets_0_28 rfl (lv_at hl 0 rfl) ?_
          obtain ⟨fs16, x16_, e16, f16, hF⟩ := gQ_s hF
          refine h_get (C := RX2) (T := TX2) (N := 11) hx hb hts in_X2 hown hGr hr e16 (by decide) rfl 2 (by decide) (hts _ q568) (fun _ h9 => h9) f16 dX2_lambda_sets_0_29 ?_
          refine lv_iload hx hb dX2_lambda_sets_0_32 (lv_at hl 4 rfl) ?_
          obtain ⟨n17, f17, x17_, e17, g17, ex17, hF⟩ := aQ_s hF
          refine h_aald hx hb hGr hr (by decide) e17 g17 dX2_lambda_sets_0_34 (v := .ref x17_) (by rw [ex17]; rfl) ?_
          refine lv_iload hx hb dX2_lambda_sets_0_35 (lv_at hl 5 rfl) ?_
          obtain ⟨n18, f18, e18, g18, hF⟩ := aI_s hF
          obtain ⟨x18_, ex18⟩ : ∃ z, z = f18 (p5).toNatClampNeg := ⟨_, rfl⟩
          rw [← ex18] at hF
          refine h_iald hx hb hGr hr 0 rfl e18 g18 dX2_lambda_sets_0_37 ?_
          rw [← ex18]
          have bz := bud_r hc hF hmc hms
          refine W.widen (k := mc) (n := ms) bz.1 bz.2 ?_
          exact W.iret (v := x18_) hx hb hret (fun t ht hWm => ⟨⟨x18_, h, rfl, Option.some.inj hF, h_end hGr hr hS ht hWm⟩, hS.F ht⟩) hS.2.2 dX2_lambda_sets_0_38
        · replace hF := it_t c15 hF
          refine lv_iload_n hx hb dX2_lambda_sets_0_24 rfl (lv_at hl 3 rfl) ?_
          refine lv_goto (tgt := 38) hx hb dX2_lambda_sets_0_25 (by decide) ?_
          have bz := bud_r hc hF hmc hms
          refine W.widen (k := mc) (n := ms) bz.1 bz.2 ?_
          exact W.iret (v := p3) hx hb hret (fun t ht hWm => ⟨⟨p3, h, rfl, Option.some.inj hF, h_end hGr hr hS ht hWm⟩, hS.F ht⟩) hS.2.2 dX2_lambda_sets_0_38

def GX2_lambda_projected_1 (n : Nat) (h : Hp) (a0 : Nat) (p1 : Int32) (p2 : Int32) : Option (Int32 × Hp) := gC h a0 2 (bnd (GX2_projected_2 n h a0 p1 p2) (fun r1 u1 => some (r1, u1)))
theorem moX2_lambda_projected_1 (n : Nat) (h : Hp) (a0 : Nat) (p1 : Int32) (p2 : Int32) : Mo h (GX2_lambda_projected_1 n h a0 p1 p2) := by
  unfold GX2_lambda_projected_1
  exact mo_gC (mo_bnd (moX2_projected_2 n h a0 p1 p2) hle_rf (fun r1 u1 m1 => mo_ret m1))
set_option maxHeartbeats 4000000 in
set_option maxRecDepth 100000 in
theorem mgX2_lambda_projected_1 (l : Launch) (D : HD) (A : Nat → Prop) (h : Hp) (n : Nat) (a0 : Nat) (p1 : Int32) (p2 : Int32) (out : Int32 × Hp) (hF : GX2_lambda_projected_1 n h a0 p1 p2 = some out) (mc ms : Nat) (hmc : hCc out.2 = hCc h + mc) (hms : hSl out.2 = hSl h + ms) : Met l yX2_lambda_projected_1 (ws_ yX2_lambda_projected_1 cX2_lambda_projected_1 3 (some .int)) ({ frames := 5, cells := mc, slots := ms, locals := 108 }) (va_Pc [.ref a0, .int p1, .int p2] (hW D A h)) (va_Qi (fun r u => (r, u) = out) (hW D A) A) mc ms A := by
  refine Met.ofW (cc := cX2_lambda_projected_1) (maxL := 3) (ret := (some .int)) (by decide +kernel) rfl ?_
  intro p e s m args below meth c s₁ B hml hv
  obtain ⟨rfl, hr, hGr⟩ := hv
  have hx := B.exec
  have hb := B.bytes
  have hret := B.returns
  have hts := atoms_spec (ws := (ws_ yX2_lambda_projected_1 cX2_lambda_projected_1 3 (some .int))) B.pre
  have hts : ∀ w ∈ lw_all, w.before _ s = true := fun w h => hts w (List.mem_cons_of_mem _ h)
  have hown : s.vm.findClass RX2 = some m.cls := findClass_of_methodNamed B.named
  have hlocks := B.notSynchronized
  have hS : va_S A s.heap s.heap [] := va_S.rf
  have hc : cst h 0 0 h := cst_0
  have hl := lv_entry ([.ref a0, .int p1, .int p2]) (n := 3) (Nat.le_of_ble_eq_true rfl)
  rw [lg_entry_eq]
  generalize (lg_sl ([.ref a0, .int p1, .int p2]) ++ List.replicate (3 - (lg_sl ([.ref a0, .int p1, .int p2])).length) Slot.unset).toArray = ls at hl ⊢
  have hl : lv_has ls 3 [(0, .ref a0), (1, .int p1), (2, .int p2)] := hl
  unfold GX2_lambda_projected_1 at hF
  refine lv_aload_n hx hb dX2_lambda_projected_1_0 rfl (lv_at hl 0 rfl) ?_
  refine lv_iload_n hx hb dX2_lambda_projected_1_1 rfl (lv_at hl 1 rfl) ?_
  refine lv_iload_n hx hb dX2_lambda_projected_1_2 rfl (lv_at hl 2 rfl) ?_
  obtain ⟨fc1, ec1, hF⟩ := gC_s hF
  obtain ⟨r1, u1, e1, hF⟩ := bnd_s hF
  have mm1 : hle u1 out.2 := (show Mo u1 _ from mo_ret hle_rf) _ hF
  obtain ⟨mc1, ms1, hmc1, hms1⟩ := up_of (moX2_projected_2 n h a0 p1 p2 _ e1)
  replace hc := cst_call hc hmc1 hms1
  refine h_calli (va_runV (As := [.int p1, .int p2]) (rest := []) ⟨hx, hb, hml, hown, hts⟩ (mgX2_projected_2 l D A h n a0 p1 p2 _ e1 mc1 ms1 hmc1 hms1) (cwV 2 hts (lw_V q1141 q1142 q1143 q102 q1144) rfl rfl rfl (by decide +kernel) ⟨Nat.le_of_ble_eq_true rfl, Nat.le_of_ble_eq_true rfl⟩) (h_preV hGr hr hS ec1 (by decide) (q := (RX2, TX2, 11)) rfl _) rfl rfl hl.1 rfl (lv_room (Nat.le_of_ble_eq_true rfl)) dX2_lambda_projected_1_3 ⟨(bud hc mm1 hmc hms).1, (bud hc mm1 hmc hms).2⟩) hS (fun rr uu H locs hw hr hS => ?_)
  obtain rfl : u1 = uu := (congrArg Prod.snd hw).symm
  obtain rfl : r1 = rr := (congrArg Prod.fst hw).symm
  have bz := bud_r hc hF hmc hms
  refine W.widen (k := mc) (n := ms) bz.1 bz.2 ?_
  exact W.iret (v := r1) hx hb hret (fun t ht hWm => ⟨⟨r1, u1, rfl, Option.some.inj hF, h_end hGr hr hS ht hWm⟩, hS.F ht⟩) hS.2.2 dX2_lambda_projected_1_6

def GX2_lambda_lessUnit_2 (h : Hp) (a0 : Nat) (p1 : Int32) (p2 : Int32) (p3 : Int32) : Option (Int32 × Hp) := if p2 = p3 then gQ h a0 2 0 (fun x5_ => gQ h a0 2 2 (fun x6_ => aQ h x6_ 4 p2 (fun x7_ => aI h x7_ 0 p3 (fun x8_ => gC h x5_ 3 (bnd (GX3_less h x5_ x8_ p1) (fun r9 u9 => some (r9, u9))))))) else gQ h a0 2 2 (fun x2_ => aQ h x2_ 4 p2 (fun x3_ => aI h x3_ 0 p3 (fun x4_ => some (x4_, h))))
theorem moX2_lambda_lessUnit_2 (h : Hp) (a0 : Nat) (p1 : Int32) (p2 : Int32) (p3 : Int32) : Mo h (GX2_lambda_lessUnit_2 h a0 p1 p2 p3) := by
  unfold GX2_lambda_lessUnit_2
  exact mo_ite (mo_gQ (fun x5_ => mo_gQ (fun x6_ => mo_aQ (fun x7_ => mo_aI (fun x8_ => mo_gC (mo_bnd (moX3_less h x5_ x8_ p1) hle_rf (fun r9 u9 m9 => mo_ret m9))))))) (mo_gQ (fun x2_ => mo_aQ (fun x3_ => mo_aI (fun x4_ => mo_ret hle_rf))))
set_option maxHeartbeats 4000000 in
set_option maxRecDepth 100000 in
theorem mgX2_lambda_lessUnit_2 (l : Launch) (D : HD) (A : Nat → Prop) (h : Hp) (a0 : Nat) (p1 : Int32) (p2 : Int32) (p3 : Int32) (out : Int32 × Hp) (hF : GX2_lambda_lessUnit_2 h a0 p1 p2 p3 = some out) (mc ms : Nat) (hmc : hCc out.2 = hCc h + mc) (hms : hSl out.2 = hSl h + ms) : Met l yX2_lambda_lessUnit_2 (ws_ yX2_lambda_lessUnit_2 cX2_lambda_lessUnit_2 4 (some .int)) ({ frames := 1, cells := mc, slots := ms, locals := 22 }) (va_Pc [.ref a0, .int p1, .int p2, .int p3] (hW D A h)) (va_Qi (fun r u => (r, u) = out) (hW D A) A) mc ms A := by
  refine Met.ofW (cc := cX2_lambda_lessUnit_2) (maxL := 4) (ret := (some .int)) (by decide +kernel) rfl ?_
  intro p e s m args below meth c s₁ B hml hv
  obtain ⟨rfl, hr, hGr⟩ := hv
  have hx := B.exec
  have hb := B.bytes
  have hret := B.returns
  have hts := atoms_spec (ws := (ws_ yX2_lambda_lessUnit_2 cX2_lambda_lessUnit_2 4 (some .int))) B.pre
  have hts : ∀ w ∈ lw_all, w.before _ s = true := fun w h => hts w (List.mem_cons_of_mem _ h)
  have hown : s.vm.findClass RX2 = some m.cls := findClass_of_methodNamed B.named
  have hlocks := B.notSynchronized
  have hS : va_S A s.heap s.heap [] := va_S.rf
  have hc : cst h 0 0 h := cst_0
  have hl := lv_entry ([.ref a0, .int p1, .int p2, .int p3]) (n := 4) (Nat.le_of_ble_eq_true rfl)
  rw [lg_entry_eq]
  generalize (lg_sl ([.ref a0, .int p1, .int p2, .int p3]) ++ List.replicate (4 - (lg_sl ([.ref a0, .int p1, .int p2, .int p3])).length) Slot.unset).toArray = ls at hl ⊢
  have hl : lv_has ls 4 [(0, .ref a0), (1, .int p1), (2, .int p2), (3, .int p3)] := hl
  unfold GX2_lambda_lessUnit_2 at hF
  refine lv_iload_n hx hb dX2_lambda_lessUnit_2_0 rfl (lv_at hl 2 rfl) ?_
  refine lv_iload_n hx hb dX2_lambda_lessUnit_2_1 rfl (lv_at hl 3 rfl) ?_
  refine lv_icmp_ne (tgt := 24) hx hb dX2_lambda_lessUnit_2_2 (by decide) (fun c1 => ?_) (fun c1 => ?_)
  · replace hF := it_f c1 hF
    refine lv_aload_n hx hb dX2_lambda_lessUnit_2_24 rfl (lv_at hl 0 rfl) ?_
    obtain ⟨fs2, x2_, e2, f2, hF⟩ := gQ_s hF
    refine h_get (C := RX2) (T := TX2) (N := 11) hx hb hts in_X2 hown hGr hr e2 (by decide) rfl 2 (by decide) (hts _ q568) (fun _ h9 => h9) f2 dX2_lambda_lessUnit_2_25 ?_
    refine lv_iload_n hx hb dX2_lambda_lessUnit_2_28 rfl (lv_at hl 2 rfl) ?_
    obtain ⟨n3, f3, x3_, e3, g3, ex3, hF⟩ := aQ_s hF
    refine h_aald hx hb hGr hr (by decide) e3 g3 dX2_lambda_lessUnit_2_29 (v := .ref x3_) (by rw [ex3]; rfl) ?_
    refine lv_iload_n hx hb dX2_lambda_lessUnit_2_30 rfl (lv_at hl 3 rfl) ?_
    obtain ⟨n4, f4, e4, g4, hF⟩ := aI_s hF
    obtain ⟨x4_, ex4⟩ : ∃ z, z = f4 (p3).toNatClampNeg := ⟨_, rfl⟩
    rw [← ex4] at hF
    refine h_iald hx hb hGr hr 0 rfl e4 g4 dX2_lambda_lessUnit_2_31 ?_
    rw [← ex4]
    have bz := bud_r hc hF hmc hms
    refine W.widen (k := mc) (n := ms) bz.1 bz.2 ?_
    exact W.iret (v := x4_) hx hb hret (fun t ht hWm => ⟨⟨x4_, h, rfl, Option.some.inj hF, h_end hGr hr hS ht hWm⟩, hS.F ht⟩) hS.2.2 dX2_lambda_lessUnit_2_32
  · replace hF := it_t c1 hF
    refine lv_aload_n hx hb dX2_lambda_lessUnit_2_5 rfl (lv_at hl 0 rfl) ?_
    obtain ⟨fs5, x5_, e5, f5, hF⟩ := gQ_s hF
    refine h_get (C := RX2) (T := TX2) (N := 11) hx hb hts in_X2 hown hGr hr e5 (by decide) rfl 0 (by decide) (hts _ q562) (fun _ h9 => h9) f5 dX2_lambda_lessUnit_2_6 ?_
    refine lv_aload_n hx hb dX2_lambda_lessUnit_2_9 rfl (lv_at hl 0 rfl) ?_
    obtain ⟨fs6, x6_, e6, f6, hF⟩ := gQ_s hF
    refine h_get (C := RX2) (T := TX2) (N := 11) hx hb hts in_X2 hown hGr hr e6 (by decide) rfl 2 (by decide) (hts _ q568) (fun _ h9 => h9) f6 dX2_lambda_lessUnit_2_10 ?_
    refine lv_iload_n hx hb dX2_lambda_lessUnit_2_13 rfl (lv_at hl 2 rfl) ?_
    obtain ⟨n7, f7, x7_, e7, g7, ex7, hF⟩ := aQ_s hF
    refine h_aald hx hb hGr hr (by decide) e7 g7 dX2_lambda_lessUnit_2_14 (v := .ref x7_) (by rw [ex7]; rfl) ?_
    refine lv_iload_n hx hb dX2_lambda_lessUnit_2_15 rfl (lv_at hl 3 rfl) ?_
    obtain ⟨n8, f8, e8, g8, hF⟩ := aI_s hF
    obtain ⟨x8_, ex8⟩ : ∃ z, z = f8 (p3).toNatClampNeg := ⟨_, rfl⟩
    rw [← ex8] at hF
    refine h_iald hx hb hGr hr 0 rfl e8 g8 dX2_lambda_lessUnit_2_16 ?_
    rw [← ex8]
    refine lv_iload_n hx hb dX2_lambda_lessUnit_2_17 rfl (lv_at hl 1 rfl) ?_
    obtain ⟨fc9, ec9, hF⟩ := gC_s hF
    obtain ⟨r9, u9, e9, hF⟩ := bnd_s hF
    have mm9 : hle u9 out.2 := (show Mo u9 _ from mo_ret hle_rf) _ hF
    obtain ⟨mc9, ms9, hmc9, hms9⟩ := up_of (moX3_less h x5_ x8_ p1 _ e9)
    replace hc := cst_call hc hmc9 hms9
    refine h_calli (va_runV (As := [.int x8_, .int p1]) (rest := []) ⟨hx, hb, hml, hown, hts⟩ (mgX3_less l D A h x5_ x8_ p1 _ e9 mc9 ms9 hmc9 hms9) (cwV 2 hts (lw_V q1183 q1184 q1185 q103 q1186) rfl rfl rfl (by decide +kernel) ⟨Nat.le_of_ble_eq_true rfl, Nat.le_of_ble_eq_true rfl⟩) (h_preV hGr hr hS ec9 (by decide) (q := (RX3, TX3, 2)) rfl _) rfl rfl hl.1 rfl (lv_room (Nat.le_of_ble_eq_true rfl)) dX2_lambda_lessUnit_2_18 ⟨(bud hc mm9 hmc hms).1, (bud hc mm9 hmc hms).2⟩) hS (fun rr uu H locs hw hr hS => ?_)
    obtain rfl : u9 = uu := (congrArg Prod.snd hw).symm
    obtain rfl : r9 = rr := (congrArg Prod.fst hw).symm
    refine lv_goto (tgt := 32) hx hb dX2_lambda_lessUnit_2_21 (by decide) ?_
    have bz := bud_r hc hF hmc hms
    refine W.widen (k := mc) (n := ms) bz.1 bz.2 ?_
    exact W.iret (v := r9) hx hb hret (fun t ht hWm => ⟨⟨r9, u9, rfl, Option.some.inj hF, h_end hGr hr hS ht hWm⟩, hS.F ht⟩) hS.2.2 dX2_lambda_lessUnit_2_32

def GX2_lambda_solution_3 (n : Nat) (h : Hp) (a0 : Nat) (p1 : Int32) (p2 : Int32) (p3 : Int32) : Option (Int32 × Hp) := if p3 = p1 then gQ h a0 2 0 (fun x3_ => gQ h a0 2 0 (fun x4_ => gQ h a0 2 3 (fun x5_ => gC h a0 2 (bnd (GX2_vector h a0 p2) (fun r6 u6 => gC u6 x4_ 3 (bnd (GX3_product n u6 x4_ x5_ r6) (fun r7 u7 => gC u7 a0 2 (bnd (GX2_norm u7 a0 p2) (fun r8 u8 => gC u8 x3_ 3 (bnd (GX3_quotient u8 x3_ r7 r8) (fun r9 u9 => some (r9, u9)))))))))))) else gC h a0 2 (bnd (GX2_projected_2 n h a0 p3 p2) (fun r2 u2 => some (r2, u2)))
theorem moX2_lambda_solution_3 (n : Nat) (h : Hp) (a0 : Nat) (p1 : Int32) (p2 : Int32) (p3 : Int32) : Mo h (GX2_lambda_solution_3 n h a0 p1 p2 p3) := by
  unfold GX2_lambda_solution_3
  exact mo_ite (mo_gQ (fun x3_ => mo_gQ (fun x4_ => mo_gQ (fun x5_ => mo_gC (mo_bnd (moX2_vector h a0 p2) hle_rf (fun r6 u6 m6 => mo_gC (mo_bnd (moX3_product n u6 x4_ x5_ r6) m6 (fun r7 u7 m7 => mo_gC (mo_bnd (moX2_norm u7 a0 p2) m7 (fun r8 u8 m8 => mo_gC (mo_bnd (moX3_quotient u8 x3_ r7 r8) m8 (fun r9 u9 m9 => mo_ret m9)))))))))))) (mo_gC (mo_bnd (moX2_projected_2 n h a0 p3 p2) hle_rf (fun r2 u2 m2 => mo_ret m2)))
set_option maxHeartbeats 4000000 in
set_option maxRecDepth 100000 in
theorem mgX2_lambda_solution_3 (l : Launch) (D : HD) (A : Nat → Prop) (h : Hp) (n : Nat) (a0 : Nat) (p1 : Int32) (p2 : Int32) (p3 : Int32) (out : Int32 × Hp) (hF : GX2_lambda_solution_3 n h a0 p1 p2 p3 = some out) (mc ms : Nat) (hmc : hCc out.2 = hCc h + mc) (hms : hSl out.2 = hSl h + ms) : Met l yX2_lambda_solution_3 (ws_ yX2_lambda_solution_3 cX2_lambda_solution_3 4 (some .int)) ({ frames := 5, cells := mc, slots := ms, locals := 108 }) (va_Pc [.ref a0, .int p1, .int p2, .int p3] (hW D A h)) (va_Qi (fun r u => (r, u) = out) (hW D A) A) mc ms A := by
  refine Met.ofW (cc := cX2_lambda_solution_3) (maxL := 4) (ret := (some .int)) (by decide +kernel) rfl ?_
  intro p e s m args below meth c s₁ B hml hv
  obtain ⟨rfl, hr, hGr⟩ := hv
  have hx := B.exec
  have hb := B.bytes
  have hret := B.returns
  have hts := atoms_spec (ws := (ws_ yX2_lambda_solution_3 cX2_lambda_solution_3 4 (some .int))) B.pre
  have hts : ∀ w ∈ lw_all, w.before _ s = true := fun w h => hts w (List.mem_cons_of_mem _ h)
  have hown : s.vm.findClass RX2 = some m.cls := findClass_of_methodNamed B.named
  have hlocks := B.notSynchronized
  have hS : va_S A s.heap s.heap [] := va_S.rf
  have hc : cst h 0 0 h := cst_0
  have hl := lv_entry ([.ref a0, .int p1, .int p2, .int p3]) (n := 4) (Nat.le_of_ble_eq_true rfl)
  rw [lg_entry_eq]
  generalize (lg_sl ([.ref a0, .int p1, .int p2, .int p3]) ++ List.replicate (4 - (lg_sl ([.ref a0, .int p1, .int p2, .int p3])).length) Slot.unset).toArray = ls at hl ⊢
  have hl : lv_has ls 4 [(0, .ref a0), (1, .int p1), (2, .int p2), (3, .int p3)] := hl
  unfold GX2_lambda_solution_3 at hF
  refine lv_iload_n hx hb dX2_lambda_solution_3_0 rfl (lv_at hl 3 rfl) ?_
  refine lv_iload_n hx hb dX2_lambda_solution_3_1 rfl (lv_at hl 1 rfl) ?_
  refine lv_icmp_ne (tgt := 36) hx hb dX2_lambda_solution_3_2 (by decide) (fun c1 => ?_) (fun c1 => ?_)
  · replace hF := it_f c1 hF
    refine lv_aload_n hx hb dX2_lambda_solution_3_36 rfl (lv_at hl 0 rfl) ?_
    refine lv_iload_n hx hb dX2_lambda_solution_3_37 rfl (lv_at hl 3 rfl) ?_
    refine lv_iload_n hx hb dX2_lambda_solution_3_38 rfl (lv_at hl 2 rfl) ?_
    obtain ⟨fc2, ec2, hF⟩ := gC_s hF
    obtain ⟨r2, u2, e2, hF⟩ := bnd_s hF
    have mm2 : hle u2 out.2 := (show Mo u2 _ from mo_ret hle_rf) _ hF
    obtain ⟨mc2, ms2, hmc2, hms2⟩ := up_of (moX2_projected_2 n h a0 p3 p2 _ e2)
    replace hc := cst_call hc hmc2 hms2
    refine h_calli (va_runV (As := [.int p3, .int p2]) (rest := []) ⟨hx, hb, hml, hown, hts⟩ (mgX2_projected_2 l D A h n a0 p3 p2 _ e2 mc2 ms2 hmc2 hms2) (cwV 2 hts (lw_V q1141 q1142 q1143 q102 q1144) rfl rfl rfl (by decide +kernel) ⟨Nat.le_of_ble_eq_true rfl, Nat.le_of_ble_eq_true rfl⟩) (h_preV hGr hr hS ec2 (by decide) (q := (RX2, TX2, 11)) rfl _) rfl rfl hl.1 rfl (lv_room (Nat.le_of_ble_eq_true rfl)) dX2_lambda_solution_3_39 ⟨(bud hc mm2 hmc hms).1, (bud hc mm2 hmc hms).2⟩) hS (fun rr uu H locs hw hr hS => ?_)
    obtain rfl : u2 = uu := (congrArg Prod.snd hw).symm
    obtain rfl : r2 = rr := (congrArg Prod.fst hw).symm
    have bz := bud_r hc hF hmc hms
    refine W.widen (k := mc) (n := ms) bz.1 bz.2 ?_
    exact W.iret (v := r2) hx hb hret (fun t ht hWm => ⟨⟨r2, u2, rfl, Option.some.inj hF, h_end hGr hr hS ht hWm⟩, hS.F ht⟩) hS.2.2 dX2_lambda_solution_3_42
  · replace hF := it_t c1 hF
    refine lv_aload_n hx hb dX2_lambda_solution_3_5 rfl (lv_at hl 0 rfl) ?_
    obtain ⟨fs3, x3_, e3, f3, hF⟩ := gQ_s hF
    refine h_get (C := RX2) (T := TX2) (N := 11) hx hb hts in_X2 hown hGr hr e3 (by decide) rfl 0 (by decide) (hts _ q562) (fun _ h9 => h9) f3 dX2_lambda_solution_3_6 ?_
    refine lv_aload_n hx hb dX2_lambda_solution_3_9 rfl (lv_at hl 0 rfl) ?_
    obtain ⟨fs4, x4_, e4, f4, hF⟩ := gQ_s hF
    refine h_get (C := RX2) (T := TX2) (N := 11) hx hb hts in_X2 hown hGr hr e4 (by decide) rfl 0 (by decide) (hts _ q562) (fun _ h9 => h9) f4 dX2_lambda_solution_3_10 ?_
    refine lv_aload_n hx hb dX2_lambda_solution_3_13 rfl (lv_at hl 0 rfl) ?_
    obtain ⟨fs5, x5_, e5, f5, hF⟩ := gQ_s hF
    refine h_get (C := RX2) (T := TX2) (N := 11) hx hb hts in_X2 hown hGr hr e5 (by decide) rfl 3 (by decide) (hts _ q570) (fun _ h9 => h9) f5 dX2_lambda_solution_3_14 ?_
    refine lv_aload_n hx hb dX2_lambda_solution_3_17 rfl (lv_at hl 0 rfl) ?_
    refine lv_iload_n hx hb dX2_lambda_solution_3_18 rfl (lv_at hl 2 rfl) ?_
    obtain ⟨fc6, ec6, hF⟩ := gC_s hF
    obtain ⟨r6, u6, e6, hF⟩ := bnd_s hF
    have mm6 : hle u6 out.2 := (show Mo u6 _ from mo_gC (mo_bnd (moX3_product n u6 x4_ x5_ r6) hle_rf (fun r7 u7 m7 => mo_gC (mo_bnd (moX2_norm u7 a0 p2) m7 (fun r8 u8 m8 => mo_gC (mo_bnd (moX3_quotient u8 x3_ r7 r8) m8 (fun r9 u9 m9 => mo_ret m9))))))) _ hF
    obtain ⟨mc6, ms6, hmc6, hms6⟩ := up_of (moX2_vector h a0 p2 _ e6)
    replace hc := cst_call hc hmc6 hms6
    refine h_callr (va_runV (As := [.int p2]) (rest := [.ref x5_, .ref x4_, .ref x3_]) ⟨hx, hb, hml, hown, hts⟩ (mgX2_vector l D A h a0 p2 _ e6 mc6 ms6 hmc6 hms6) (cwV 1 hts (lw_V q1013 q1014 q1015 q102 q1016) rfl rfl rfl (by decide +kernel) ⟨Nat.le_of_ble_eq_true rfl, Nat.le_of_ble_eq_true rfl⟩) (h_preV hGr hr hS ec6 (by decide) (q := (RX2, TX2, 11)) rfl _) rfl rfl hl.1 rfl (lv_room (Nat.le_of_ble_eq_true rfl)) dX2_lambda_solution_3_19 ⟨(bud hc mm6 hmc hms).1, (bud hc mm6 hmc hms).2⟩) hS (fun rr uu H locs hw hr hS => ?_)
    obtain rfl : u6 = uu := (congrArg Prod.snd hw).symm
    obtain rfl : r6 = rr := (congrArg Prod.fst hw).symm
    obtain ⟨fc7, ec7, hF⟩ := gC_s hF
    obtain ⟨r7, u7, e7, hF⟩ := bnd_s hF
    have mm7 : hle u7 out.2 := (show Mo u7 _ from mo_gC (mo_bnd (moX2_norm u7 a0 p2) hle_rf (fun r8 u8 m8 => mo_gC (mo_bnd (moX3_quotient u8 x3_ r7 r8) m8 (fun r9 u9 m9 => mo_ret m9))))) _ hF
    obtain ⟨mc7, ms7, hmc7, hms7⟩ := up_of (moX3_product n u6 x4_ x5_ r6 _ e7)
    replace hc := cst_call hc hmc7 hms7
    refine h_calli (va_runV (As := [.ref x5_, .ref r6]) (rest := [.ref x3_]) ⟨hx, hb, hml, hown, hts⟩ (mgX3_product l D A u6 n x4_ x5_ r6 _ e7 mc7 ms7 hmc7 hms7) (cwV 2 hts (lw_V q968 q969 q970 q103 q971) rfl rfl rfl (by decide +kernel) ⟨Nat.le_of_ble_eq_true rfl, Nat.le_of_ble_eq_true rfl⟩) (h_preV hGr hr hS ec7 (by decide) (q := (RX3, TX3, 2)) rfl _) rfl rfl hl.1 rfl (lv_room (Nat.le_of_ble_eq_true rfl)) dX2_lambda_solution_3_22 ⟨(bud hc mm7 hmc hms).1, (bud hc mm7 hmc hms).2⟩) hS (fun rr uu H locs hw hr hS => ?_)
    obtain rfl : u7 = uu := (congrArg Prod.snd hw).symm
    obtain rfl : r7 = rr := (congrArg Prod.fst hw).symm
    refine lv_aload_n hx hb dX2_lambda_solution_3_25 rfl (lv_at hl 0 rfl) ?_
    refine lv_iload_n hx hb dX2_lambda_solution_3_26 rfl (lv_at hl 2 rfl) ?_
    obtain ⟨fc8, ec8, hF⟩ := gC_s hF
    obtain ⟨r8, u8, e8, hF⟩ := bnd_s hF
    have mm8 : hle u8 out.2 := (show Mo u8 _ from mo_gC (mo_bnd (moX3_quotient u8 x3_ r7 r8) hle_rf (fun r9 u9 m9 => mo_ret m9))) _ hF
    obtain ⟨mc8, ms8, hmc8, hms8⟩ := up_of (moX2_norm u7 a0 p2 _ e8)
    replace hc := cst_call hc hmc8 hms8
    refine h_calli (va_runV (As := [.int p2]) (rest := [.int r7, .ref x3_]) ⟨hx, hb, hml, hown, hts⟩ (mgX2_norm l D A u7 a0 p2 _ e8 mc8 ms8 hmc8 hms8) (cwV 1 hts (lw_V q1021 q1022 q1023 q102 q1024) rfl rfl rfl (by decide +kernel) ⟨Nat.le_of_ble_eq_true rfl, Nat.le_of_ble_eq_true rfl⟩) (h_preV hGr hr hS ec8 (by decide) (q := (RX2, TX2, 11)) rfl _) rfl rfl hl.1 rfl (lv_room (Nat.le_of_ble_eq_true rfl)) dX2_lambda_solution_3_27 ⟨(bud hc mm8 hmc hms).1, (bud hc mm8 hmc hms).2⟩) hS (fun rr uu H locs hw hr hS => ?_)
    obtain rfl : u8 = uu := (congrArg Prod.snd hw).symm
    obtain rfl : r8 = rr := (congrArg Prod.fst hw).symm
    obtain ⟨fc9, ec9, hF⟩ := gC_s hF
    obtain ⟨r9, u9, e9, hF⟩ := bnd_s hF
    have mm9 : hle u9 out.2 := (show Mo u9 _ from mo_ret hle_rf) _ hF
    obtain ⟨mc9, ms9, hmc9, hms9⟩ := up_of (moX3_quotient u8 x3_ r7 r8 _ e9)
    replace hc := cst_call hc hmc9 hms9
    refine h_calli (va_runV (As := [.int r7, .int r8]) (rest := []) ⟨hx, hb, hml, hown, hts⟩ (mgX3_quotient l D A u8 x3_ r7 r8 _ e9 mc9 ms9 hmc9 hms9) (cwV 2 hts (lw_V q1029 q1030 q1031 q103 q1032) rfl rfl rfl (by decide +kernel) ⟨Nat.le_of_ble_eq_true rfl, Nat.le_of_ble_eq_true rfl⟩) (h_preV hGr hr hS ec9 (by decide) (q := (RX3, TX3, 2)) rfl _) rfl rfl hl.1 rfl (lv_room (Nat.le_of_ble_eq_true rfl)) dX2_lambda_solution_3_30 ⟨(bud hc mm9 hmc hms).1, (bud hc mm9 hmc hms).2⟩) hS (fun rr uu H locs hw hr hS => ?_)
    obtain rfl : u9 = uu := (congrArg Prod.snd hw).symm
    obtain rfl : r9 = rr := (congrArg Prod.fst hw).symm
    refine lv_goto (tgt := 42) hx hb dX2_lambda_solution_3_33 (by decide) ?_
    have bz := bud_r hc hF hmc hms
    refine W.widen (k := mc) (n := ms) bz.1 bz.2 ?_
    exact W.iret (v := r9) hx hb hret (fun t ht hWm => ⟨⟨r9, u9, rfl, Option.some.inj hF, h_end hGr hr hS ht hWm⟩, hS.F ht⟩) hS.2.2 dX2_lambda_solution_3_42
