/-! the component and what it calls of the library, walked by program (tool/dc.py): G.. the pure function, mo.. its growth, mg.. the contract -/
def GX1_wholeTable (n : Nat) (h : Hp) (a0 : Nat) : Option (Nat × Hp) := gQ h a0 1 0 (fun x1_ => gQ h a0 1 0 (fun x2_ => gQ h x2_ 2 7 (fun x3_ => gC h x3_ 10 (bnd (GJ2_size h x3_) (fun r4 u4 => gC u4 x1_ 2 (bnd (GX2_projected n u4 x1_ r4) (fun r5 u5 => some (r5, u5))))))))
theorem moX1_wholeTable (n : Nat) (h : Hp) (a0 : Nat) : Mo h (GX1_wholeTable n h a0) := by
  unfold GX1_wholeTable
  exact mo_gQ (fun x1_ => mo_gQ (fun x2_ => mo_gQ (fun x3_ => mo_gC (mo_bnd (moJ2_size h x3_) hle_rf (fun r4 u4 m4 => mo_gC (mo_bnd (moX2_projected n u4 x1_ r4) m4 (fun r5 u5 m5 => mo_ret m5)))))))
set_option maxHeartbeats 4000000 in
set_option maxRecDepth 100000 in
theorem mgX1_wholeTable (l : Launch) (D : HD) (A : Nat → Prop) (h : Hp) (n : Nat) (a0 : Nat) (out : Nat × Hp) (hF : GX1_wholeTable n h a0 = some out) (mc ms : Nat) (hmc : hCc out.2 = hCc h + mc) (hms : hSl out.2 = hSl h + ms) : Met l yX1_wholeTable (ws_ yX1_wholeTable cX1_wholeTable 1 (some (.array (.array .int)))) ({ frames := 9, cells := mc, slots := ms, locals := 3121 }) (va_Pc [.ref a0] (hW D A h)) (va_Qr (fun _ : Hp => True) (fun u r t => (r, u) = out ∧ hW D A u t) A) mc ms A := by
  refine Met.ofW (cc := cX1_wholeTable) (maxL := 1) (ret := (some (.array (.array .int)))) (by decide +kernel) rfl ?_
  intro p e s m args below meth c s₁ B hml hv
  obtain ⟨rfl, hr, hGr⟩ := hv
  have hx := B.exec
  have hb := B.bytes
  have hret := B.returns
  have hts := atoms_spec (ws := (ws_ yX1_wholeTable cX1_wholeTable 1 (some (.array (.array .int))))) B.pre
  have hts : ∀ w ∈ lw_all, w.before _ s = true := fun w h => hts w (List.mem_cons_of_mem _ h)
  have hown : s.vm.findClass RX1 = some m.cls := findClass_of_methodNamed B.named
  have hlocks := B.notSynchronized
  have hS : va_S A s.heap s.heap [] := va_S.rf
  have hc : cst h 0 0 h := cst_0
  have hl := lv_entry ([.ref a0]) (n := 1) (Nat.le_of_ble_eq_true rfl)
  rw [lg_entry_eq]
  generalize (lg_sl ([.ref a0]) ++ List.replicate (1 - (lg_sl ([.ref a0])).length) Slot.unset).toArray = ls at hl ⊢
  have hl : lv_has ls 1 [(0, .ref a0)] := hl
  unfold GX1_wholeTable at hF
  refine lv_aload_n hx hb dX1_wholeTable_0 rfl (lv_at hl 0 rfl) ?_
  obtain ⟨fs1, x1_, e1, f1, hF⟩ := gQ_s hF
  refine h_get (C := RX1) (T := TX1) (N := 7) hx hb hts in_X1 hown hGr hr e1 (by decide) rfl 0 (by decide) (hts _ q633) (fun _ h9 => h9) f1 dX1_wholeTable_1 ?_
  refine lv_aload_n hx hb dX1_wholeTable_4 rfl (lv_at hl 0 rfl) ?_
  obtain ⟨fs2, x2_, e2, f2, hF⟩ := gQ_s hF
  refine h_get (C := RX1) (T := TX1) (N := 7) hx hb hts in_X1 hown hGr hr e2 (by decide) rfl 0 (by decide) (hts _ q633) (fun _ h9 => h9) f2 dX1_wholeTable_5 ?_
  obtain ⟨fs3, x3_, e3, f3, hF⟩ := gQ_s hF
  refine h_getN (C := RX2) (T := TX2) (N := 11) hx hb hts in_X2 hown hGr hr e3 (by decide) rfl 7 (by decide) (va_Nw.use rfl (hGr.nw q583 rfl)) (fun _ h9 => h9) f3 dX1_wholeTable_8 ?_
  obtain ⟨fc4, ec4, hF⟩ := gC_s hF
  obtain ⟨r4, u4, e4, hF⟩ := bnd_s hF
  have mm4 : hle u4 out.2 := (show Mo u4 _ from mo_gC (mo_bnd (moX2_projected n u4 x1_ r4) hle_rf (fun r5 u5 m5 => mo_ret m5))) _ hF
  obtain ⟨mc4, ms4, hmc4, hms4⟩ := up_of (moJ2_size h x3_ _ e4)
  replace hc := cst_call hc hmc4 hms4
  refine h_callFi (va_runF (hGr.K.1 10 _ rfl).2 (As := []) (rest := [.ref x1_]) ⟨hx, hb, hml, hown, hts⟩ (mgJ2_size l D A h x3_ _ e4 mc4 ms4 hmc4 hms4) (va_cwF 0 hts (lw_app (lw_fi q1068 q875 q877 q106) (lw_meth q879)) rfl rfl rfl (fw_5 hGr) (by decide +kernel) ⟨Nat.le_of_ble_eq_true rfl, Nat.le_of_ble_eq_true rfl⟩) (h_preV hGr hr hS ec4 (by decide) (q := (RJ2, TJ2, 3)) rfl _) rfl rfl hl.1 rfl (lv_room (Nat.le_of_ble_eq_true rfl)) dX1_wholeTable_11 ⟨(bud hc mm4 hmc hms).1, (bud hc mm4 hmc hms).2⟩) hS (fun rr uu H locs hw hr hS => ?_)
  obtain rfl : u4 = uu := (congrArg Prod.snd hw).symm
  obtain rfl : r4 = rr := (congrArg Prod.fst hw).symm
  obtain ⟨fc5, ec5, hF⟩ := gC_s hF
  obtain ⟨r5, u5, e5, hF⟩ := bnd_s hF
  have mm5 : hle u5 out.2 := (show Mo u5 _ from mo_ret hle_rf) _ hF
  obtain ⟨mc5, ms5, hmc5, hms5⟩ := up_of (moX2_projected n u4 x1_ r4 _ e5)
  replace hc := cst_call hc hmc5 hms5
  refine h_callr (va_runV (As := [.int r4]) (rest := []) ⟨hx, hb, hml, hown, hts⟩ (mgX2_projected l D A u4 n x1_ r4 _ e5 mc5 ms5 hmc5 hms5) (cwV 1 hts (lw_V q1134 q1135 q1136 q102 q1137) rfl rfl rfl (by decide +kernel) ⟨Nat.le_of_ble_eq_true rfl, Nat.le_of_ble_eq_true rfl⟩) (h_preV hGr hr hS ec5 (by decide) (q := (RX2, TX2, 11)) rfl _) rfl rfl hl.1 rfl (lv_room (Nat.le_of_ble_eq_true rfl)) dX1_wholeTable_16 ⟨(bud hc mm5 hmc hms).1, (bud hc mm5 hmc hms).2⟩) hS (fun rr uu H locs hw hr hS => ?_)
  obtain rfl : u5 = uu := (congrArg Prod.snd hw).symm
  obtain rfl : r5 = rr := (congrArg Prod.fst hw).symm
  have bz := bud_r hc hF hmc hms
  refine W.widen (k := mc) (n := ms) bz.1 bz.2 ?_
  exact W.aret (v := .ref r5) hx hb hret (Or.inr ⟨_, rfl⟩) (Or.inr ⟨_, rfl⟩) (fun t ht hWm => ⟨⟨u5, r5, rfl, trivial, Option.some.inj hF, h_end hGr hr hS ht hWm⟩, hS.F ht⟩) hS.2.2 dX1_wholeTable_19

def GX1_width_1 (R : Nat → Hp → Nat → Nat → Int32 → Int32 → Int32 → Option (Int32 × Hp)) (n : Nat) (h : Hp) (b0 : Nat) (b1 : Nat) (x2 : Int32) (x3 : Int32) (x4 : Int32) : Option (Int32 × Hp) := aL h b1 (fun x2_ => if x2_ ≤ x3 then some (x2, h) else R 2 h b0 b1 x2 x3 (0 : Int32))
def GX1_width_2 (R : Nat → Hp → Nat → Nat → Int32 → Int32 → Int32 → Option (Int32 × Hp)) (n : Nat) (h : Hp) (b0 : Nat) (b1 : Nat) (x2 : Int32) (x3 : Int32) (x4 : Int32) : Option (Int32 × Hp) := aL h b1 (fun x4_ => if x4_ ≤ x4 then R 1 h b0 b1 x2 (x3 + 1) x4 else aQ h b1 4 x3 (fun x6_ => aI h x6_ 0 x4 (fun x7_ => if x7_ = 0 then R 2 h b0 b1 x2 x3 (x4 + 1) else R 2 h b0 b1 (if x2 < (if 0 ≤ (x3 - x4) then (x3 - x4) else 0 - (x3 - x4)) then (if 0 ≤ (x3 - x4) then (x3 - x4) else 0 - (x3 - x4)) else x2) x3 (x4 + 1))))
def GX1_width_r : Nat → Nat → Hp → Nat → Nat → Int32 → Int32 → Int32 → Option (Int32 × Hp)
  | 0 => fun _ _ _ _ _ _ _ => none
  | n + 1 => fun k => match k with | 1 => GX1_width_1 (GX1_width_r n) n | _ => GX1_width_2 (GX1_width_r n) n
def GX1_width_0 (R : Nat → Hp → Nat → Nat → Int32 → Int32 → Int32 → Option (Int32 × Hp)) (n : Nat) (h : Hp) (a0 : Nat) : Option (Int32 × Hp) := gC h a0 1 (bnd (GX1_wholeTable n h a0) (fun r1 u1 => R 1 u1 a0 r1 ((-1) : Int32) (0 : Int32) 0))
def GX1_width (n : Nat) (h : Hp) (a0 : Nat) : Option (Int32 × Hp) := GX1_width_0 (GX1_width_r n) n h a0
theorem moX1_width_r (n : Nat) : (∀ (h : Hp) (b0 : Nat) (b1 : Nat) (x2 : Int32) (x3 : Int32) (x4 : Int32), Mo h (GX1_width_r n 1 h b0 b1 x2 x3 x4)) ∧ (∀ (h : Hp) (b0 : Nat) (b1 : Nat) (x2 : Int32) (x3 : Int32) (x4 : Int32), Mo h (GX1_width_r n 2 h b0 b1 x2 x3 x4)) := by
  induction n with
  | zero => exact ⟨(fun _ _ _ _ _ _ => mo_no), (fun _ _ _ _ _ _ => mo_no)⟩
  | succ n ih =>
    obtain ⟨ml1, ml2⟩ := ih
    exact ⟨(fun h b0 b1 x2 x3 x4 => show Mo h (GX1_width_1 (GX1_width_r n) n h b0 b1 x2 x3 x4) from by unfold GX1_width_1; exact mo_aL (fun x2_ => mo_ite (mo_ret hle_rf) (mo_tr hle_rf (ml2 h b0 b1 x2 x3 (0 : Int32))))),
      (fun h b0 b1 x2 x3 x4 => show Mo h (GX1_width_2 (GX1_width_r n) n h b0 b1 x2 x3 x4) from by unfold GX1_width_2; exact mo_aL (fun x4_ => mo_ite (mo_tr hle_rf (ml1 h b0 b1 x2 (x3 + 1) x4)) (mo_aQ (fun x6_ => mo_aI (fun x7_ => mo_ite (mo_tr hle_rf (ml2 h b0 b1 x2 x3 (x4 + 1))) (mo_tr hle_rf (ml2 h b0 b1 (if x2 < (if 0 ≤ (x3 - x4) then (x3 - x4) else 0 - (x3 - x4)) then (if 0 ≤ (x3 - x4) then (x3 - x4) else 0 - (x3 - x4)) else x2) x3 (x4 + 1))))))))⟩
theorem moX1_width (n : Nat) (h : Hp) (a0 : Nat) : Mo h (GX1_width n h a0) := by
  obtain ⟨ml1, ml2⟩ := moX1_width_r n
  unfold GX1_width GX1_width_0
  exact mo_gC (mo_bnd (moX1_wholeTable n h a0) hle_rf (fun r1 u1 m1 => mo_tr m1 (ml1 u1 a0 r1 ((-1) : Int32) (0 : Int32) 0)))
set_option maxHeartbeats 4000000 in
set_option maxRecDepth 100000 in
theorem mgX1_width (l : Launch) (D : HD) (A : Nat → Prop) (h : Hp) (n : Nat) (a0 : Nat) (out : Int32 × Hp) (hF : GX1_width n h a0 = some out) (mc ms : Nat) (hmc : hCc out.2 = hCc h + mc) (hms : hSl out.2 = hSl h + ms) : Met l yX1_width (ws_ yX1_width cX1_width 5 (some .int)) ({ frames := 10, cells := mc, slots := ms, locals := 3141 }) (va_Pc [.ref a0] (hW D A h)) (va_Qi (fun r u => (r, u) = out) (hW D A) A) mc ms A := by
  refine Met.ofW (cc := cX1_width) (maxL := 5) (ret := (some .int)) (by decide +kernel) rfl ?_
  intro p e s m args below meth c s₁ B hml hv
  obtain ⟨rfl, hr, hGr⟩ := hv
  have hx := B.exec
  have hb := B.bytes
  have hret := B.returns
  have hts := atoms_spec (ws := (ws_ yX1_width cX1_width 5 (some .int))) B.pre
  have hts : ∀ w ∈ lw_all, w.before _ s = true := fun w h => hts w (List.mem_cons_of_mem _ h)
  have hown : s.vm.findClass RX1 = some m.cls := findClass_of_methodNamed B.named
  have hlocks := B.notSynchronized
  have hS : va_S A s.heap s.heap [] := va_S.rf
  have hc : cst h 0 0 h := cst_0
  have hl := lv_entry ([.ref a0]) (n := 5) (Nat.le_of_ble_eq_true rfl)
  rw [lg_entry_eq]
  generalize (lg_sl ([.ref a0]) ++ List.replicate (5 - (lg_sl ([.ref a0])).length) Slot.unset).toArray = ls at hl ⊢
  have hl : lv_has ls 5 [(0, .ref a0)] := hl
  obtain ⟨h0, eh0⟩ : ∃ z, z = h := ⟨_, rfl⟩
  rw [← eh0] at hmc hms
  have loop : ∀ n : Nat, (∀ (h : Hp) (b0 : Nat) (b1 : Nat) (x2 : Int32) (x3 : Int32) (x4 : Int32), GX1_width_r n 1 h b0 b1 x2 x3 x4 = some out → ∀ (H : Heap) (locs : List Loc) (cells slots : Nat), cst h0 cells slots h → hR D A h H → va_S A s.heap H locs → ∀ ls : Array Slot, lv_has ls 5 [(0, .ref b0), (1, .ref b1), (2, .int x2), (3, .int x3)] → W p l e (headSpec (ws_ yX1_width cX1_width 5 (some .int)) ({ frames := 10, cells := mc, slots := ms, locals := 3141 })).room s m ([.ref a0] : List Value).toArray below meth c H locs cells slots (MQ below (va_Qi (fun r u => (r, u) = out) (hW D A) A) ([.ref a0] : List Value).toArray s mc ms A) (F0 m 9 ls [])) ∧ (∀ (h : Hp) (b0 : Nat) (b1 : Nat) (x2 : Int32) (x3 : Int32) (x4 : Int32), GX1_width_r n 2 h b0 b1 x2 x3 x4 = some out → ∀ (H : Heap) (locs : List Loc) (cells slots : Nat), cst h0 cells slots h → hR D A h H → va_S A s.heap H locs → ∀ ls : Array Slot, lv_has ls 5 [(0, .ref b0), (1, .ref b1), (2, .int x2), (3, .int x3), (4, .int x4)] → W p l e (headSpec (ws_ yX1_width cX1_width 5 (some .int)) ({ frames := 10, cells := mc, slots := ms, locals := 3141 })).room s m ([.ref a0] : List Value).toArray below meth c H locs cells slots (MQ below (va_Qi (fun r u => (r, u) = out) (hW D A) A) ([.ref a0] : List Value).toArray s mc ms A) (F0 m 18 ls [])) := by
    intro n
    induction n with
    | zero => exact ⟨(fun _ _ _ _ _ _ h => nomatch h), (fun _ _ _ _ _ _ h => nomatch h)⟩
    | succ n ih =>
      obtain ⟨lp1, lp2⟩ := ih
      obtain ⟨ml1, ml2⟩ := moX1_width_r n
      refine ⟨?_, ?_⟩
      · intro h b0 b1 x2 x3 x4 hF H locs cells slots hc hr hS ls hl
        replace hF : GX1_width_1 (GX1_width_r n) n h b0 b1 x2 x3 x4 = some out := hF
        unfold GX1_width_1 at hF
        refine lv_iload_n hx hb dX1_width_9 rfl (lv_at hl 3 rfl) ?_
        refine lv_aload_n hx hb dX1_width_10 rfl (lv_at hl 1 rfl) ?_
        obtain ⟨k2, y2, e2, g2, hF⟩ := aL_s hF
        obtain ⟨x2_, ex2⟩ : ∃ z, z = Int32.ofNat y2.1 := ⟨_, rfl⟩
        rw [← ex2] at hF
        refine h_alen hx hb hGr hr e2 g2 dX1_width_11 ?_
        rw [← ex2]
        refine lv_icmp_ge (tgt := 58) hx hb dX1_width_12 (by decide) (fun c3 => ?_) (fun c3 => ?_)
        · replace hF := it_t c3 hF
          refine lv_iload_n hx hb dX1_width_58 rfl (lv_at hl 2 rfl) ?_
          have bz := bud_r hc hF hmc hms
          refine W.widen (k := mc) (n := ms) bz.1 bz.2 ?_
          exact W.iret (v := x2) hx hb hret (fun t ht hWm => ⟨⟨x2, h, rfl, Option.some.inj hF, h_end hGr hr hS ht hWm⟩, hS.F ht⟩) hS.2.2 dX1_width_59
        · replace hF := it_f c3 hF
          refine lv_iconst (v := 0) hx hb dX1_width_15 (by decide) ?_
          refine lv_istore (lv' := [(4, .int 0), (0, .ref b0), (1, .ref b1), (2, .int x2), (3, .int x3)]) hx hb dX1_width_16 hl (by decide) rfl (fun ls hl => ?_)
          exact lp2 h b0 b1 x2 x3 (0 : Int32) hF _ _ _ _ hc hr hS ls (lv_sub hl [1, 2, 3, 4, 0] rfl)
      · intro h b0 b1 x2 x3 x4 hF H locs cells slots hc hr hS ls hl
        replace hF : GX1_width_2 (GX1_width_r n) n h b0 b1 x2 x3 x4 = some out := hF
        unfold GX1_width_2 at hF
        refine lv_iload hx hb dX1_width_18 (lv_at hl 4 rfl) ?_
        refine lv_aload_n hx hb dX1_width_20 rfl (lv_at hl 1 rfl) ?_
        obtain ⟨k4, y4, e4, g4, hF⟩ := aL_s hF
        obtain ⟨x4_, ex4⟩ : ∃ z, z = Int32.ofNat y4.1 := ⟨_, rfl⟩
        rw [← ex4] at hF
        refine h_alen hx hb hGr hr e4 g4 dX1_width_21 ?_
        rw [← ex4]
        refine lv_icmp_ge (tgt := 52) hx hb dX1_width_22 (by decide) (fun c5 => ?_) (fun c5 => ?_)
        · replace hF := it_t c5 hF
          refine lv_iinc (v := (x3 + 1)) (lv' := [(3, .int (x3 + 1)), (0, .ref b0), (1, .ref b1), (2, .int x2), (4, .int x4)]) hx hb dX1_width_52 hl (k := 3) rfl rfl (by decide) rfl (fun ls hl => ?_)
          refine lv_goto (tgt := 9) hx hb dX1_width_55 (by decide) ?_
          exact lp1 h b0 b1 x2 (x3 + 1) x4 hF _ _ _ _ hc hr hS ls (lv_sub hl [1, 2, 3, 0] rfl)
        · replace hF := it_f c5 hF
          refine lv_aload_n hx hb dX1_width_25 rfl (lv_at hl 1 rfl) ?_
          refine lv_iload_n hx hb dX1_width_26 rfl (lv_at hl 3 rfl) ?_
          obtain ⟨n6, f6, x6_, e6, g6, ex6, hF⟩ := aQ_s hF
          refine h_aald hx hb hGr hr (by decide) e6 g6 dX1_width_27 (v := .ref x6_) (by rw [ex6]; rfl) ?_
          refine lv_iload hx hb dX1_width_28 (lv_at hl 4 rfl) ?_
          obtain ⟨n7, f7, e7, g7, hF⟩ := aI_s hF
          obtain ⟨x7_, ex7⟩ : ∃ z, z = f7 (x4).toNatClampNeg := ⟨_, rfl⟩
          rw [← ex7] at hF
          refine h_iald hx hb hGr hr 0 rfl e7 g7 dX1_width_30 ?_
          rw [← ex7]
          refine lv_if_eq (tgt := 46) hx hb dX1_width_31 (by decide) (fun c8 => ?_) (fun c8 => ?_)
          · replace hF := it_t c8 hF
            refine lv_iinc (v := (x4 + 1)) (lv' := [(4, .int (x4 + 1)), (0, .ref b0), (1, .ref b1), (2, .int x2), (3, .int x3)]) hx hb dX1_width_46 hl (k := 4) rfl rfl (by decide) rfl (fun ls hl => ?_)
            refine lv_goto (tgt := 18) hx hb dX1_width_49 (by decide) ?_
            exact lp2 h b0 b1 x2 x3 (x4 + 1) hF _ _ _ _ hc hr hS ls (lv_sub hl [1, 2, 3, 4, 0] rfl)
          · replace hF := it_f c8 hF
            refine lv_iload_n hx hb dX1_width_34 rfl (lv_at hl 2 rfl) ?_
            refine lv_iload_n hx hb dX1_width_35 rfl (lv_at hl 3 rfl) ?_
            refine lv_iload hx hb dX1_width_36 (lv_at hl 4 rfl) ?_
            refine lv_isub hx hb dX1_width_38 ?_
            have mm9 : hle h out.2 := (show Mo h _ from mo_tr hle_rf (ml2 h b0 b1 (if x2 < (if 0 ≤ (x3 - x4) then (x3 - x4) else 0 - (x3 - x4)) then (if 0 ≤ (x3 - x4) then (x3 - x4) else 0 - (x3 - x4)) else x2) x3 (x4 + 1))) _ hF
            refine va_mabs hx hb (by rw [hml]; exact hl.1.symm) hown (hts _ q1154) (hts _ q1155) (hts _ q116) (hts _ q1156) (Nat.le_of_ble_eq_true rfl) (Nat.le_of_ble_eq_true rfl) (bud hc mm9 hmc hms).1 (bud hc mm9 hmc hms).2 dX1_width_39 ?_
            have mm10 : hle h out.2 := (show Mo h _ from mo_tr hle_rf (ml2 h b0 b1 (if x2 < (if 0 ≤ (x3 - x4) then (x3 - x4) else 0 - (x3 - x4)) then (if 0 ≤ (x3 - x4) then (x3 - x4) else 0 - (x3 - x4)) else x2) x3 (x4 + 1))) _ hF
            refine va_mmax hx hb (by rw [hml]; exact hl.1.symm) hown (hts _ q1157) (hts _ q318) (hts _ q116) (hts _ q319) (Nat.le_of_ble_eq_true rfl) (Nat.le_of_ble_eq_true rfl) (bud hc mm10 hmc hms).1 (bud hc mm10 hmc hms).2 dX1_width_42 ?_
            refine lv_istore_n (lv' := [(2, .int (if x2 < (if 0 ≤ (x3 - x4) then (x3 - x4) else 0 - (x3 - x4)) then (if 0 ≤ (x3 - x4) then (x3 - x4) else 0 - (x3 - x4)) else x2)), (0, .ref b0), (1, .ref b1), (3, .int x3), (4, .int x4)]) hx hb dX1_width_45 rfl hl (by decide) rfl (fun ls hl => ?_)
            refine lv_iinc (v := (x4 + 1)) (lv' := [(4, .int (x4 + 1)), (2, .int (if x2 < (if 0 ≤ (x3 - x4) then (x3 - x4) else 0 - (x3 - x4)) then (if 0 ≤ (x3 - x4) then (x3 - x4) else 0 - (x3 - x4)) else x2)), (0, .ref b0), (1, .ref b1), (3, .int x3)]) hx hb dX1_width_46 hl (k := 4) rfl rfl (by decide) rfl (fun ls hl => ?_)
            refine lv_goto (tgt := 18) hx hb dX1_width_49 (by decide) ?_
            exact lp2 h b0 b1 (if x2 < (if 0 ≤ (x3 - x4) then (x3 - x4) else 0 - (x3 - x4)) then (if 0 ≤ (x3 - x4) then (x3 - x4) else 0 - (x3 - x4)) else x2) x3 (x4 + 1) hF _ _ _ _ hc hr hS ls (lv_sub hl [2, 3, 1, 4, 0] rfl)
  obtain ⟨lp1, lp2⟩ := loop n
  obtain ⟨ml1, ml2⟩ := moX1_width_r n
  have hc : cst h0 0 0 h := by rw [eh0]; exact cst_0
  unfold GX1_width GX1_width_0 at hF
  refine lv_aload_n hx hb dX1_width_0 rfl (lv_at hl 0 rfl) ?_
  obtain ⟨fc1, ec1, hF⟩ := gC_s hF
  obtain ⟨r1, u1, e1, hF⟩ := bnd_s hF
  have mm1 : hle u1 out.2 := (show Mo u1 _ from mo_tr hle_rf (ml1 u1 a0 r1 ((-1) : Int32) (0 : Int32) 0)) _ hF
  obtain ⟨mc1, ms1, hmc1, hms1⟩ := up_of (moX1_wholeTable n h a0 _ e1)
  replace hc := cst_call hc hmc1 hms1
  refine h_callr (va_runV (As := []) (rest := []) ⟨hx, hb, hml, hown, hts⟩ (mgX1_wholeTable l D A h n a0 _ e1 mc1 ms1 hmc1 hms1) (cwV 0 hts (lw_V q1130 q1132 qs22 q101 q1133) rfl rfl rfl (by decide +kernel) ⟨Nat.le_of_ble_eq_true rfl, Nat.le_of_ble_eq_true rfl⟩) (h_preV hGr hr hS ec1 (by decide) (q := (RX1, TX1, 7)) rfl _) rfl rfl hl.1 rfl (lv_room (Nat.le_of_ble_eq_true rfl)) dX1_width_1 ⟨(bud hc mm1 hmc hms).1, (bud hc mm1 hmc hms).2⟩) hS (fun rr uu H locs hw hr hS => ?_)
  obtain rfl : u1 = uu := (congrArg Prod.snd hw).symm
  obtain rfl : r1 = rr := (congrArg Prod.fst hw).symm
  refine lv_astore_n (lv' := [(1, .ref r1), (0, .ref a0)]) hx hb dX1_width_4 rfl hl (by decide) rfl (fun ls hl => ?_)
  refine lv_iconst (v := (-1)) hx hb dX1_width_5 (by decide) ?_
  refine lv_istore_n (lv' := [(2, .int (-1)), (1, .ref r1), (0, .ref a0)]) hx hb dX1_width_6 rfl hl (by decide) rfl (fun ls hl => ?_)
  refine lv_iconst (v := 0) hx hb dX1_width_7 (by decide) ?_
  refine lv_istore_n (lv' := [(3, .int 0), (2, .int (-1)), (1, .ref r1), (0, .ref a0)]) hx hb dX1_width_8 rfl hl (by decide) rfl (fun ls hl => ?_)
  exact lp1 u1 a0 r1 ((-1) : Int32) (0 : Int32) 0 hF _ _ _ _ hc hr hS ls (lv_sub hl [3, 2, 1, 0] rfl)

def GX1_determinant (n : Nat) (h : Hp) (a0 : Nat) : Option (Int32 × Hp) := nW h 9 [.null, .null, .int 0, .int 0] 4 (fun a1_ h1 => gQ h1 a0 1 0 (fun x2_ => gQ h1 x2_ 2 0 (fun x3_ => gC h1 a0 1 (bnd (GX1_wholeTable n h1 a0) (fun r4 u4 => bnd (GX10_init n u4 a1_ x3_ r4) (fun r5 u5 => gI u5 a1_ 9 3 (fun x6_ => some (x6_, u5))))))))
theorem moX1_determinant (n : Nat) (h : Hp) (a0 : Nat) : Mo h (GX1_determinant n h a0) := by
  unfold GX1_determinant
  exact mo_nW hle_rf (fun a1_ h1 m1 => mo_gQ (fun x2_ => mo_gQ (fun x3_ => mo_gC (mo_bnd (moX1_wholeTable n h1 a0) m1 (fun r4 u4 m4 => mo_bnd (moX10_init n u4 a1_ x3_ r4) m4 (fun r5 u5 m5 => mo_gI (fun x6_ => mo_ret m5)))))))
set_option maxHeartbeats 4000000 in
set_option maxRecDepth 100000 in
theorem mgX1_determinant (l : Launch) (D : HD) (A : Nat → Prop) (h : Hp) (n : Nat) (a0 : Nat) (out : Int32 × Hp) (hF : GX1_determinant n h a0 = some out) (mc ms : Nat) (hmc : hCc out.2 = hCc h + mc) (hms : hSl out.2 = hSl h + ms) : Met l yX1_determinant (ws_ yX1_determinant cX1_determinant 1 (some .int)) ({ frames := 10, cells := mc, slots := ms, locals := 3141 }) (va_Pc [.ref a0] (hW D A h)) (va_Qi (fun r u => (r, u) = out) (hW D A) A) mc ms A := by
  refine Met.ofW (cc := cX1_determinant) (maxL := 1) (ret := (some .int)) (by decide +kernel) rfl ?_
  intro p e s m args below meth c s₁ B hml hv
  obtain ⟨rfl, hr, hGr⟩ := hv
  have hx := B.exec
  have hb := B.bytes
  have hret := B.returns
  have hts := atoms_spec (ws := (ws_ yX1_determinant cX1_determinant 1 (some .int))) B.pre
  have hts : ∀ w ∈ lw_all, w.before _ s = true := fun w h => hts w (List.mem_cons_of_mem _ h)
  have hown : s.vm.findClass RX1 = some m.cls := findClass_of_methodNamed B.named
  have hlocks := B.notSynchronized
  have hS : va_S A s.heap s.heap [] := va_S.rf
  have hc : cst h 0 0 h := cst_0
  have hl := lv_entry ([.ref a0]) (n := 1) (Nat.le_of_ble_eq_true rfl)
  rw [lg_entry_eq]
  generalize (lg_sl ([.ref a0]) ++ List.replicate (1 - (lg_sl ([.ref a0])).length) Slot.unset).toArray = ls at hl ⊢
  have hl : lv_has ls 1 [(0, .ref a0)] := hl
  unfold GX1_determinant at hF
  obtain ⟨a1_, h1, ea1, eh1, hF⟩ := nW_s hF
  have mm1 : hle h1 out.2 := (show Mo h1 _ from mo_gQ (fun x2_ => mo_gQ (fun x3_ => mo_gC (mo_bnd (moX1_wholeTable n h1 a0) hle_rf (fun r4 u4 m4 => mo_bnd (moX10_init n u4 a1_ x3_ r4) m4 (fun r5 u5 m5 => mo_gI (fun x6_ => mo_ret m5))))))) _ hF
  replace hc := cst_new hc eh1
  refine h_new (C := RX10) (T := TX10) (N := 4) hx hb hts in_X10 tyX10 tyX10_ok hown (hts _ q1162) (hts _ q1089) (hts _ q141) hGr hr hS (ci := 9) (by decide) rfl (fs := [.null, .null, .int 0, .int 0]) (fun j hj => by match j, hj with | 0, _ => rfl | 1, _ => rfl | 2, _ => rfl | 3, _ => rfl | j + 4, hj => omega) (bud hc mm1 hmc hms).1 (bud hc mm1 hmc hms).2 dX1_determinant_0 (fun H hr hS => ?_)
  rw [← eh1] at hr
  rw [← ea1]
  refine lv_dup hx hb dX1_determinant_3 rfl ?_
  refine lv_aload_n hx hb dX1_determinant_4 rfl (lv_at hl 0 rfl) ?_
  obtain ⟨fs2, x2_, e2, f2, hF⟩ := gQ_s hF
  refine h_get (C := RX1) (T := TX1) (N := 7) hx hb hts in_X1 hown hGr hr e2 (by decide) rfl 0 (by decide) (hts _ q633) (fun _ h9 => h9) f2 dX1_determinant_5 ?_
  obtain ⟨fs3, x3_, e3, f3, hF⟩ := gQ_s hF
  refine h_getN (C := RX2) (T := TX2) (N := 11) hx hb hts in_X2 hown hGr hr e3 (by decide) rfl 0 (by decide) (va_Nw.use rfl (hGr.nw q564 rfl)) (fun _ h9 => h9) f3 dX1_determinant_8 ?_
  refine lv_aload_n hx hb dX1_determinant_11 rfl (lv_at hl 0 rfl) ?_
  obtain ⟨fc4, ec4, hF⟩ := gC_s hF
  obtain ⟨r4, u4, e4, hF⟩ := bnd_s hF
  have mm4 : hle u4 out.2 := (show Mo u4 _ from mo_bnd (moX10_init n u4 a1_ x3_ r4) hle_rf (fun r5 u5 m5 => mo_gI (fun x6_ => mo_ret m5))) _ hF
  obtain ⟨mc4, ms4, hmc4, hms4⟩ := up_of (moX1_wholeTable n h1 a0 _ e4)
  replace hc := cst_call hc hmc4 hms4
  refine h_callr (va_runV (As := []) (rest := [.ref x3_, .ref a1_, .ref a1_]) ⟨hx, hb, hml, hown, hts⟩ (mgX1_wholeTable l D A h1 n a0 _ e4 mc4 ms4 hmc4 hms4) (cwV 0 hts (lw_V q1130 q1132 qs22 q101 q1133) rfl rfl rfl (by decide +kernel) ⟨Nat.le_of_ble_eq_true rfl, Nat.le_of_ble_eq_true rfl⟩) (h_preV hGr hr hS ec4 (by decide) (q := (RX1, TX1, 7)) rfl _) rfl rfl hl.1 rfl (lv_room (Nat.le_of_ble_eq_true rfl)) dX1_determinant_12 ⟨(bud hc mm4 hmc hms).1, (bud hc mm4 hmc hms).2⟩) hS (fun rr uu H locs hw hr hS => ?_)
  obtain rfl : u4 = uu := (congrArg Prod.snd hw).symm
  obtain rfl : r4 = rr := (congrArg Prod.fst hw).symm
  obtain ⟨r5, u5, e5, hF⟩ := bnd_s hF
  have mm5 : hle u5 out.2 := (show Mo u5 _ from mo_gI (fun x6_ => mo_ret hle_rf)) _ hF
  obtain ⟨mc5, ms5, hmc5, hms5⟩ := up_of (moX10_init n u4 a1_ x3_ r4 _ e5)
  replace hc := cst_call hc hmc5 hms5
  refine h_callv (va_runI (As := [.ref x3_, .ref r4]) (rest := [.ref a1_]) ⟨hx, hb, hml, hown, hts⟩ (mgX10_init l D A u4 n a1_ x3_ r4 _ e5 mc5 ms5 hmc5 hms5) (cwI 2 hts (lw_meth q1092) rfl rfl rfl (hts _ q141) (hts _ q1163) (hts _ q1091) rfl (by decide +kernel) ⟨Nat.le_of_ble_eq_true rfl, Nat.le_of_ble_eq_true rfl⟩) (h_preS hGr hr hS _) rfl rfl hl.1 rfl (lv_room (Nat.le_of_ble_eq_true rfl)) dX1_determinant_15 ⟨(bud hc mm5 hmc hms).1, (bud hc mm5 hmc hms).2⟩) hS (fun uu H locs hw hr hS => ?_)
  obtain rfl : u5 = uu := (congrArg Prod.snd hw).symm
  obtain ⟨fs6, x6_, e6, f6, hF⟩ := gI_s hF
  refine h_getN (C := RX10) (T := TX10) (N := 4) hx hb hts in_X10 hown hGr hr e6 (by decide) rfl 3 (by decide) (va_Nw.use rfl (hGr.nw q1116 rfl)) (fun _ h9 => h9) f6 dX1_determinant_18 ?_
  have bz := bud_r hc hF hmc hms
  refine W.widen (k := mc) (n := ms) bz.1 bz.2 ?_
  exact W.iret (v := x6_) hx hb hret (fun t ht hWm => ⟨⟨x6_, u5, rfl, Option.some.inj hF, h_end hGr hr hS ht hWm⟩, hS.F ht⟩) hS.2.2 dX1_determinant_21

def GX1_filled_1 (R : Nat → Hp → Nat → Nat → Int32 → Nat → Int32 → Int32 → Nat → Nat → Int32 → Int32 → Option (UInt32 × Hp)) (n : Nat) (h : Hp) (b0 : Nat) (b1 : Nat) (x2 : Int32) (b3 : Nat) (x4 : Int32) (x5 : Int32) (b6 : Nat) (b7 : Nat) (x8 : Int32) (x9 : Int32) : Option (UInt32 × Hp) := if x4 ≤ x5 then aL h b1 (fun x4_ => if x4_ = 0 then some (FP.fconst0, h) else aL h b1 (fun x6_ => aL h b1 (fun x7_ => gd (nanB (FP.fdiv (FP.i2f x2) (FP.i2f (x6_ * x7_)))) (some ((FP.fdiv (FP.i2f x2) (FP.i2f (x6_ * x7_))), h))))) else aQ h b3 4 x5 (fun x9_ => aL h x9_ (fun x10_ => R 2 h b0 b1 x2 b3 x4 x5 x9_ x9_ x10_ (0 : Int32)))
def GX1_filled_2 (R : Nat → Hp → Nat → Nat → Int32 → Nat → Int32 → Int32 → Nat → Nat → Int32 → Int32 → Option (UInt32 × Hp)) (n : Nat) (h : Hp) (b0 : Nat) (b1 : Nat) (x2 : Int32) (b3 : Nat) (x4 : Int32) (x5 : Int32) (b6 : Nat) (b7 : Nat) (x8 : Int32) (x9 : Int32) : Option (UInt32 × Hp) := if x8 ≤ x9 then R 1 h b0 b1 x2 b3 x4 (x5 + 1) b6 b7 x8 x9 else aI h b7 0 x9 (fun x12_ => if x12_ = 0 then R 2 h b0 b1 (x2 + 0) b3 x4 x5 b6 b7 x8 (x9 + 1) else R 2 h b0 b1 (x2 + 1) b3 x4 x5 b6 b7 x8 (x9 + 1))
def GX1_filled_r : Nat → Nat → Hp → Nat → Nat → Int32 → Nat → Int32 → Int32 → Nat → Nat → Int32 → Int32 → Option (UInt32 × Hp)
  | 0 => fun _ _ _ _ _ _ _ _ _ _ _ _ => none
  | n + 1 => fun k => match k with | 1 => GX1_filled_1 (GX1_filled_r n) n | _ => GX1_filled_2 (GX1_filled_r n) n
def GX1_filled_0 (R : Nat → Hp → Nat → Nat → Int32 → Nat → Int32 → Int32 → Nat → Nat → Int32 → Int32 → Option (UInt32 × Hp)) (n : Nat) (h : Hp) (a0 : Nat) : Option (UInt32 × Hp) := gC h a0 1 (bnd (GX1_wholeTable n h a0) (fun r1 u1 => aL u1 r1 (fun x2_ => R 1 u1 a0 r1 (0 : Int32) r1 x2_ (0 : Int32) 0 0 0 0)))
def GX1_filled (n : Nat) (h : Hp) (a0 : Nat) : Option (UInt32 × Hp) := GX1_filled_0 (GX1_filled_r n) n h a0
theorem moX1_filled_r (n : Nat) : (∀ (h : Hp) (b0 : Nat) (b1 : Nat) (x2 : Int32) (b3 : Nat) (x4 : Int32) (x5 : Int32) (b6 : Nat) (b7 : Nat) (x8 : Int32) (x9 : Int32), Mo h (GX1_filled_r n 1 h b0 b1 x2 b3 x4 x5 b6 b7 x8 x9)) ∧ (∀ (h : Hp) (b0 : Nat) (b1 : Nat) (x2 : Int32) (b3 : Nat) (x4 : Int32) (x5 : Int32) (b6 : Nat) (b7 : Nat) (x8 : Int32) (x9 : Int32), Mo h (GX1_filled_r n 2 h b0 b1 x2 b3 x4 x5 b6 b7 x8 x9)) := by
  induction n with
  | zero => exact ⟨(fun _ _ _ _ _ _ _ _ _ _ _ => mo_no), (fun _ _ _ _ _ _ _ _ _ _ _ => mo_no)⟩
  | succ n ih =>
    obtain ⟨ml1, ml2⟩ := ih
    exact ⟨(fun h b0 b1 x2 b3 x4 x5 b6 b7 x8 x9 => show Mo h (GX1_filled_1 (GX1_filled_r n) n h b0 b1 x2 b3 x4 x5 b6 b7 x8 x9) from by unfold GX1_filled_1; exact mo_ite (mo_aL (fun x4_ => mo_ite (mo_ret hle_rf) (mo_aL (fun x6_ => mo_aL (fun x7_ => mo_gd (mo_ret hle_rf)))))) (mo_aQ (fun x9_ => mo_aL (fun x10_ => mo_tr hle_rf (ml2 h b0 b1 x2 b3 x4 x5 x9_ x9_ x10_ (0 : Int32)))))),
      (fun h b0 b1 x2 b3 x4 x5 b6 b7 x8 x9 => show Mo h (GX1_filled_2 (GX1_filled_r n) n h b0 b1 x2 b3 x4 x5 b6 b7 x8 x9) from by unfold GX1_filled_2; exact mo_ite (mo_tr hle_rf (ml1 h b0 b1 x2 b3 x4 (x5 + 1) b6 b7 x8 x9)) (mo_aI (fun x12_ => mo_ite (mo_tr hle_rf (ml2 h b0 b1 (x2 + 0) b3 x4 x5 b6 b7 x8 (x9 + 1))) (mo_tr hle_rf (ml2 h b0 b1 (x2 + 1) b3 x4 x5 b6 b7 x8 (x9 + 1))))))⟩
theorem moX1_filled (n : Nat) (h : Hp) (a0 : Nat) : Mo h (GX1_filled n h a0) := by
  obtain ⟨ml1, ml2⟩ := moX1_filled_r n
  unfold GX1_filled GX1_filled_0
  exact mo_gC (mo_bnd (moX1_wholeTable n h a0) hle_rf (fun r1 u1 m1 => mo_aL (fun x2_ => mo_tr m1 (ml1 u1 a0 r1 (0 : Int32) r1 x2_ (0 : Int32) 0 0 0 0))))
set_option maxHeartbeats 4000000 in
set_option maxRecDepth 100000 in
theorem mgX1_filled (l : Launch) (D : HD) (A : Nat → Prop) (h : Hp) (n : Nat) (a0 : Nat) (out : UInt32 × Hp) (hF : GX1_filled n h a0 = some out) (mc ms : Nat) (hmc : hCc out.2 = hCc h + mc) (hms : hSl out.2 = hSl h + ms) : Met l yX1_filled (ws_ yX1_filled cX1_filled 11 (some .float)) ({ frames := 10, cells := mc, slots := ms, locals := 3141 }) (va_Pc [.ref a0] (hW D A h)) (va_Qf (fun r u => (r, u) = out) (hW D A) A) mc ms A := by
  refine Met.ofW (cc := cX1_filled) (maxL := 11) (ret := (some .float)) (by decide +kernel) rfl ?_
  intro p e s m args below meth c s₁ B hml hv
  obtain ⟨rfl, hr, hGr⟩ := hv
  have hx := B.exec
  have hb := B.bytes
  have hret := B.returns
  have hts := atoms_spec (ws := (ws_ yX1_filled cX1_filled 11 (some .float))) B.pre
  have hts : ∀ w ∈ lw_all, w.before _ s = true := fun w h => hts w (List.mem_cons_of_mem _ h)
  have hown : s.vm.findClass RX1 = some m.cls := findClass_of_methodNamed B.named
  have hlocks := B.notSynchronized
  have hS : va_S A s.heap s.heap [] := va_S.rf
  have hc : cst h 0 0 h := cst_0
  have hl := lv_entry ([.ref a0]) (n := 11) (Nat.le_of_ble_eq_true rfl)
  rw [lg_entry_eq]
  generalize (lg_sl ([.ref a0]) ++ List.replicate (11 - (lg_sl ([.ref a0])).length) Slot.unset).toArray = ls at hl ⊢
  have hl : lv_has ls 11 [(0, .ref a0)] := hl
  obtain ⟨h0, eh0⟩ : ∃ z, z = h := ⟨_, rfl⟩
  rw [← eh0] at hmc hms
  have loop : ∀ n : Nat, (∀ (h : Hp) (b0 : Nat) (b1 : Nat) (x2 : Int32) (b3 : Nat) (x4 : Int32) (x5 : Int32) (b6 : Nat) (b7 : Nat) (x8 : Int32) (x9 : Int32), GX1_filled_r n 1 h b0 b1 x2 b3 x4 x5 b6 b7 x8 x9 = some out → ∀ (H : Heap) (locs : List Loc) (cells slots : Nat), cst h0 cells slots h → hR D A h H → va_S A s.heap H locs → ∀ ls : Array Slot, lv_has ls 11 [(0, .ref b0), (1, .ref b1), (2, .int x2), (3, .ref b3), (4, .int x4), (5, .int x5)] → W p l e (headSpec (ws_ yX1_filled cX1_filled 11 (some .float)) ({ frames := 10, cells := mc, slots := ms, locals := 3141 })).room s m ([.ref a0] : List Value).toArray below meth c H locs cells slots (MQ below (va_Qf (fun r u => (r, u) = out) (hW D A) A) ([.ref a0] : List Value).toArray s mc ms A) (F0 m 16 ls [])) ∧ (∀ (h : Hp) (b0 : Nat) (b1 : Nat) (x2 : Int32) (b3 : Nat) (x4 : Int32) (x5 : Int32) (b6 : Nat) (b7 : Nat) (x8 : Int32) (x9 : Int32), GX1_filled_r n 2 h b0 b1 x2 b3 x4 x5 b6 b7 x8 x9 = some out → ∀ (H : Heap) (locs : List Loc) (cells slots : Nat), cst h0 cells slots h → hR D A h H → va_S A s.heap H locs → ∀ ls : Array Slot, lv_has ls 11 [(0, .ref b0), (1, .ref b1), (2, .int x2), (3, .ref b3), (4, .int x4), (5, .int x5), (6, .ref b6), (7, .ref b7), (8, .int x8), (9, .int x9)] → W p l e (headSpec (ws_ yX1_filled cX1_filled 11 (some .float)) ({ frames := 10, cells := mc, slots := ms, locals := 3141 })).room s m ([.ref a0] : List Value).toArray below meth c H locs cells slots (MQ below (va_Qf (fun r u => (r, u) = out) (hW D A) A) ([.ref a0] : List Value).toArray s mc ms A) (F0 m 41 ls [])) := by
    intro n
    induction n with
    | zero => exact ⟨(fun _ _ _ _ _ _ _ _ _ _ _ h => nomatch h), (fun _ _ _ _ _ _ _ _ _ _ _ h => nomatch h)⟩
    | succ n ih =>
      obtain ⟨lp1, lp2⟩ := ih
      obtain ⟨ml1, ml2⟩ := moX1_filled_r n
      refine ⟨?_, ?_⟩
      · intro h b0 b1 x2 b3 x4 x5 b6 b7 x8 x9 hF H locs cells slots hc hr hS ls hl
        replace hF : GX1_filled_1 (GX1_filled_r n) n h b0 b1 x2 b3 x4 x5 b6 b7 x8 x9 = some out := hF
        unfold GX1_filled_1 at hF
        refine lv_iload hx hb dX1_filled_16 (lv_at hl 5 rfl) ?_
        refine lv_iload hx hb dX1_filled_18 (lv_at hl 4 rfl) ?_
        refine lv_icmp_ge (tgt := 80) hx hb dX1_filled_20 (by decide) (fun c3 => ?_) (fun c3 => ?_)
        · replace hF := it_t c3 hF
          refine lv_aload_n hx hb dX1_filled_80 rfl (lv_at hl 1 rfl) ?_
          obtain ⟨k4, y4, e4, g4, hF⟩ := aL_s hF
          obtain ⟨x4_, ex4⟩ : ∃ z, z = Int32.ofNat y4.1 := ⟨_, rfl⟩
          rw [← ex4] at hF
          refine h_alen hx hb hGr hr e4 g4 dX1_filled_81 ?_
          rw [← ex4]
          refine lv_if_ne (tgt := 89) hx hb dX1_filled_82 (by decide) (fun c5 => ?_) (fun c5 => ?_)
          · replace hF := it_f c5 hF
            refine lv_iload_n hx hb dX1_filled_89 rfl (lv_at hl 2 rfl) ?_
            refine lv_i2f hx hb dX1_filled_90 ?_
            refine lv_aload_n hx hb dX1_filled_91 rfl (lv_at hl 1 rfl) ?_
            obtain ⟨k6, y6, e6, g6, hF⟩ := aL_s hF
            obtain ⟨x6_, ex6⟩ : ∃ z, z = Int32.ofNat y6.1 := ⟨_, rfl⟩
            rw [← ex6] at hF
            refine h_alen hx hb hGr hr e6 g6 dX1_filled_92 ?_
            rw [← ex6]
            refine lv_aload_n hx hb dX1_filled_93 rfl (lv_at hl 1 rfl) ?_
            obtain ⟨k7, y7, e7, g7, hF⟩ := aL_s hF
            obtain ⟨x7_, ex7⟩ : ∃ z, z = Int32.ofNat y7.1 := ⟨_, rfl⟩
            rw [← ex7] at hF
            refine h_alen hx hb hGr hr e7 g7 dX1_filled_94 ?_
            rw [← ex7]
            refine lv_imul hx hb dX1_filled_95 ?_
            refine lv_i2f hx hb dX1_filled_96 ?_
            obtain ⟨g8, hF⟩ := gd_s hF
            refine lv_fdiv hx hb dX1_filled_97 (nan_of g8) ?_
            have bz := bud_r hc hF hmc hms
            refine W.widen (k := mc) (n := ms) bz.1 bz.2 ?_
            exact W.fret (v := (FP.fdiv (FP.i2f x2) (FP.i2f (x6_ * x7_)))) hx hb hret (fun t ht hWm => ⟨⟨(FP.fdiv (FP.i2f x2) (FP.i2f (x6_ * x7_))), h, rfl, Option.some.inj hF, h_end hGr hr hS ht hWm⟩, hS.F ht⟩) hS.2.2 dX1_filled_98
          · replace hF := it_t c5 hF
            refine lv_fconst0 hx hb dX1_filled_85 ?_
            refine lv_goto (tgt := 98) hx hb dX1_filled_86 (by decide) ?_
            have bz := bud_r hc hF hmc hms
            refine W.widen (k := mc) (n := ms) bz.1 bz.2 ?_
            exact W.fret (v := FP.fconst0) hx hb hret (fun t ht hWm => ⟨⟨FP.fconst0, h, rfl, Option.some.inj hF, h_end hGr hr hS ht hWm⟩, hS.F ht⟩) hS.2.2 dX1_filled_98
        · replace hF := it_f c3 hF
          refine lv_aload_n hx hb dX1_filled_23 rfl (lv_at hl 3 rfl) ?_
          refine lv_iload hx hb dX1_filled_24 (lv_at hl 5 rfl) ?_
          obtain ⟨n9, f9, x9_, e9, g9, ex9, hF⟩ := aQ_s hF
          refine h_aald hx hb hGr hr (by decide) e9 g9 dX1_filled_26 (v := .ref x9_) (by rw [ex9]; rfl) ?_
          refine lv_astore (lv' := [(6, .ref x9_), (0, .ref b0), (1, .ref b1), (2, .int x2), (3, .ref b3), (4, .int x4), (5, .int x5)]) hx hb dX1_filled_27 hl (by decide) rfl (fun ls hl => ?_)
          refine lv_aload hx hb dX1_filled_29 (lv_at hl 0 rfl) ?_
          refine lv_astore (lv' := [(7, .ref x9_), (6, .ref x9_), (0, .ref b0), (1, .ref b1), (2, .int x2), (3, .ref b3), (4, .int x4), (5, .int x5)]) hx hb dX1_filled_31 hl (by decide) rfl (fun ls hl => ?_)
          refine lv_aload hx hb dX1_filled_33 (lv_at hl 0 rfl) ?_
          obtain ⟨k10, y10, e10, g10, hF⟩ := aL_s hF
          obtain ⟨x10_, ex10⟩ : ∃ z, z = Int32.ofNat y10.1 := ⟨_, rfl⟩
          rw [← ex10] at hF
          refine h_alen hx hb hGr hr e10 g10 dX1_filled_35 ?_
          rw [← ex10]
          refine lv_istore (lv' := [(8, .int x10_), (7, .ref x9_), (6, .ref x9_), (0, .ref b0), (1, .ref b1), (2, .int x2), (3, .ref b3), (4, .int x4), (5, .int x5)]) hx hb dX1_filled_36 hl (by decide) rfl (fun ls hl => ?_)
          refine lv_iconst (v := 0) hx hb dX1_filled_38 (by decide) ?_
          refine lv_istore (lv' := [(9, .int 0), (8, .int x10_), (7, .ref x9_), (6, .ref x9_), (0, .ref b0), (1, .ref b1), (2, .int x2), (3, .ref b3), (4, .int x4), (5, .int x5)]) hx hb dX1_filled_39 hl (by decide) rfl (fun ls hl => ?_)
          exact lp2 h b0 b1 x2 b3 x4 x5 x9_ x9_ x10_ (0 : Int32) hF _ _ _ _ hc hr hS ls (lv_sub hl [4, 5, 6, 7, 8, 9, 3, 2, 1, 0] rfl)
      · intro h b0 b1 x2 b3 x4 x5 b6 b7 x8 x9 hF H locs cells slots hc hr hS ls hl
        replace hF : GX1_filled_2 (GX1_filled_r n) n h b0 b1 x2 b3 x4 x5 b6 b7 x8 x9 = some out := hF
        unfold GX1_filled_2 at hF
        refine lv_iload hx hb dX1_filled_41 (lv_at hl 9 rfl) ?_
        refine lv_iload hx hb dX1_filled_43 (lv_at hl 8 rfl) ?_
        refine lv_icmp_ge (tgt := 74) hx hb dX1_filled_45 (by decide) (fun c11 => ?_) (fun c11 => ?_)
        · replace hF := it_t c11 hF
          refine lv_iinc (v := (x5 + 1)) (lv' := [(5, .int (x5 + 1)), (0, .ref b0), (1, .ref b1), (2, .int x2), (3, .ref b3), (4, .int x4), (6, .ref b6), (7, .ref b7), (8, .int x8), (9, .int x9)]) hx hb dX1_filled_74 hl (k := 5) rfl rfl (by decide) rfl (fun ls hl => ?_)
          refine lv_goto (tgt := 16) hx hb dX1_filled_77 (by decide) ?_
          exact lp1 h b0 b1 x2 b3 x4 (x5 + 1) b6 b7 x8 x9 hF _ _ _ _ hc hr hS ls (lv_sub hl [1, 2, 3, 4, 5, 0] rfl)
        · replace hF := it_f c11 hF
          refine lv_aload hx hb dX1_filled_48 (lv_at hl 7 rfl) ?_
          refine lv_iload hx hb dX1_filled_50 (lv_at hl 9 rfl) ?_
          obtain ⟨n12, f12, e12, g12, hF⟩ := aI_s hF
          obtain ⟨x12_, ex12⟩ : ∃ z, z = f12 (x9).toNatClampNeg := ⟨_, rfl⟩
          rw [← ex12] at hF
          refine h_iald hx hb hGr hr 0 rfl e12 g12 dX1_filled_52 ?_
          rw [← ex12]
          refine lv_istore (lv' := [(10, .int x12_), (0, .ref b0), (1, .ref b1), (2, .int x2), (3, .ref b3), (4, .int x4), (5, .int x5), (6, .ref b6), (7, .ref b7), (8, .int x8), (9, .int x9)]) hx hb dX1_filled_53 hl (by decide) rfl (fun ls hl => ?_)
          refine lv_iload_n hx hb dX1_filled_55 rfl (lv_at hl 3 rfl) ?_
          refine lv_iload hx hb dX1_filled_56 (lv_at hl 0 rfl) ?_
          refine lv_if_ne (tgt := 65) hx hb dX1_filled_58 (by decide) (fun c13 => ?_) (fun c13 => ?_)
          · replace hF := it_f c13 hF
            refine lv_iconst (v := 1) hx hb dX1_filled_65 (by decide) ?_
            refine lv_iadd hx hb dX1_filled_66 ?_
            refine lv_istore_n (lv' := [(2, .int (x2 + 1)), (10, .int x12_), (0, .ref b0), (1, .ref b1), (3, .ref b3), (4, .int x4), (5, .int x5), (6, .ref b6), (7, .ref b7), (8, .int x8), (9, .int x9)]) hx hb dX1_filled_67 rfl hl (by decide) rfl (fun ls hl => ?_)
            refine lv_iinc (v := (x9 + 1)) (lv' := [(9, .int (x9 + 1)), (2, .int (x2 + 1)), (10, .int x12_), (0, .ref b0), (1, .ref b1), (3, .ref b3), (4, .int x4), (5, .int x5), (6, .ref b6), (7, .ref b7), (8, .int x8)]) hx hb dX1_filled_68 hl (k := 10) rfl rfl (by decide) rfl (fun ls hl => ?_)
            refine lv_goto (tgt := 41) hx hb dX1_filled_71 (by decide) ?_
            exact lp2 h b0 b1 (x2 + 1) b3 x4 x5 b6 b7 x8 (x9 + 1) hF _ _ _ _ hc hr hS ls (lv_sub hl [3, 4, 1, 5, 6, 7, 8, 9, 10, 0] rfl)
          · replace hF := it_t c13 hF
            refine lv_iconst (v := 0) hx hb dX1_filled_61 (by decide) ?_
            refine lv_goto (tgt := 66) hx hb dX1_filled_62 (by decide) ?_
            refine lv_iadd hx hb dX1_filled_66 ?_
            refine lv_istore_n (lv' := [(2, .int (x2 + 0)), (10, .int x12_), (0, .ref b0), (1, .ref b1), (3, .ref b3), (4, .int x4), (5, .int x5), (6, .ref b6), (7, .ref b7), (8, .int x8), (9, .int x9)]) hx hb dX1_filled_67 rfl hl (by decide) rfl (fun ls hl => ?_)
            refine lv_iinc (v := (x9 + 1)) (lv' := [(9, .int (x9 + 1)), (2, .int (x2 + 0)), (10, .int x12_), (0, .ref b0), (1, .ref b1), (3, .ref b3), (4, .int x4), (5, .int x5), (6, .ref b6), (7, .ref b7), (8, .int x8)]) hx hb dX1_filled_68 hl (k := 10) rfl rfl (by decide) rfl (fun ls hl => ?_)
            refine lv_goto (tgt := 41) hx hb dX1_filled_71 (by decide) ?_
            exact lp2 h b0 b1 (x2 + 0) b3 x4 x5 b6 b7 x8 (x9 + 1) hF _ _ _ _ hc hr hS ls (lv_sub hl [3, 4, 1, 5, 6, 7, 8, 9, 10, 0] rfl)
  obtain ⟨lp1, lp2⟩ := loop n
  obtain ⟨ml1, ml2⟩ := moX1_filled_r n
  have hc : cst h0 0 0 h := by rw [eh0]; exact cst_0
  unfold GX1_filled GX1_filled_0 at hF
  refine lv_aload_n hx hb dX1_filled_0 rfl (lv_at hl 0 rfl) ?_
  obtain ⟨fc1, ec1, hF⟩ := gC_s hF
  obtain ⟨r1, u1, e1, hF⟩ := bnd_s hF
  have mm1 : hle u1 out.2 := (show Mo u1 _ from mo_aL (fun x2_ => mo_tr hle_rf (ml1 u1 a0 r1 (0 : Int32) r1 x2_ (0 : Int32) 0 0 0 0))) _ hF
  obtain ⟨mc1, ms1, hmc1, hms1⟩ := up_of (moX1_wholeTable n h a0 _ e1)
  replace hc := cst_call hc hmc1 hms1
  refine h_callr (va_runV (As := []) (rest := []) ⟨hx, hb, hml, hown, hts⟩ (mgX1_wholeTable l D A h n a0 _ e1 mc1 ms1 hmc1 hms1) (cwV 0 hts (lw_V q1130 q1132 qs22 q101 q1133) rfl rfl rfl (by decide +kernel) ⟨Nat.le_of_ble_eq_true rfl, Nat.le_of_ble_eq_true rfl⟩) (h_preV hGr hr hS ec1 (by decide) (q := (RX1, TX1, 7)) rfl _) rfl rfl hl.1 rfl (lv_room (Nat.le_of_ble_eq_true rfl)) dX1_filled_1 ⟨(bud hc mm1 hmc hms).1, (bud hc mm1 hmc hms).2⟩) hS (fun rr uu H locs hw hr hS => ?_)
  obtain rfl : u1 = uu := (congrArg Prod.snd hw).symm
  obtain rfl : r1 = rr := (congrArg Prod.fst hw).symm
  refine lv_astore_n (lv' := [(1, .ref r1), (0, .ref a0)]) hx hb dX1_filled_4 rfl hl (by decide) rfl (fun ls hl => ?_)
  refine lv_iconst (v := 0) hx hb dX1_filled_5 (by decide) ?_
  refine lv_istore_n (lv' := [(2, .int 0), (1, .ref r1), (0, .ref a0)]) hx hb dX1_filled_6 rfl hl (by decide) rfl (fun ls hl => ?_)
  refine lv_aload_n hx hb dX1_filled_7 rfl (lv_at hl 1 rfl) ?_
  refine lv_astore_n (lv' := [(3, .ref r1), (2, .int 0), (1, .ref r1), (0, .ref a0)]) hx hb dX1_filled_8 rfl hl (by decide) rfl (fun ls hl => ?_)
  refine lv_aload_n hx hb dX1_filled_9 rfl (lv_at hl 0 rfl) ?_
  obtain ⟨k2, y2, e2, g2, hF⟩ := aL_s hF
  obtain ⟨x2_, ex2⟩ : ∃ z, z = Int32.ofNat y2.1 := ⟨_, rfl⟩
  rw [← ex2] at hF
  refine h_alen hx hb hGr hr e2 g2 dX1_filled_10 ?_
  rw [← ex2]
  refine lv_istore (lv' := [(4, .int x2_), (3, .ref r1), (2, .int 0), (1, .ref r1), (0, .ref a0)]) hx hb dX1_filled_11 hl (by decide) rfl (fun ls hl => ?_)
  refine lv_iconst (v := 0) hx hb dX1_filled_13 (by decide) ?_
  refine lv_istore (lv' := [(5, .int 0), (4, .int x2_), (3, .ref r1), (2, .int 0), (1, .ref r1), (0, .ref a0)]) hx hb dX1_filled_14 hl (by decide) rfl (fun ls hl => ?_)
  exact lp1 u1 a0 r1 (0 : Int32) r1 x2_ (0 : Int32) 0 0 0 0 hF _ _ _ _ hc hr hS ls (lv_sub hl [5, 4, 3, 2, 1, 0] rfl)

def GX1_determinantAt (n : Nat) (h : Hp) (a0 : Nat) (p1 : Int32) : Option ((Int32 ⊕ Xq) × Hp) := gC h a0 1 (bnx (GX1_requireNumber h a0 p1) (fun r1 u1 => gQ u1 a0 1 0 (fun x2_ => gC u1 x2_ 2 (bnd (GX2_determinantAt n u1 x2_ p1) (fun r3 u3 => some (.inl r3, u3))))))
theorem moX1_determinantAt (n : Nat) (h : Hp) (a0 : Nat) (p1 : Int32) : Mo h (GX1_determinantAt n h a0 p1) := by
  unfold GX1_determinantAt
  exact mo_gC (mo_bnx (moX1_requireNumber h a0 p1) hle_rf (fun r1 u1 m1 => mo_gQ (fun x2_ => mo_gC (mo_bnd (moX2_determinantAt n u1 x2_ p1) m1 (fun r3 u3 m3 => mo_ret m3)))))
set_option maxHeartbeats 4000000 in
set_option maxRecDepth 100000 in
theorem mgX1_determinantAt (l : Launch) (hl0 : l.stackTraces = false) (D : HD) (A : Nat → Prop) (h : Hp) (n : Nat) (a0 : Nat) (p1 : Int32) (out : (Int32 ⊕ Xq) × Hp) (hF : GX1_determinantAt n h a0 p1 = some out) (mc ms : Nat) (hmc : hCc out.2 = hCc h + mc) (hms : hSl out.2 = hSl h + ms) : vx_Met l yX1_determinantAt (ws_ yX1_determinantAt cX1_determinantAt 2 (some .int)) ({ frames := 10, cells := mc, slots := ms, locals := 3142 }) (va_Pc [.ref a0, .int p1] (hW D A h)) (va_Qi (fun r u => ((.inl r : Int32 ⊕ Xq), u) = out) (hW D A) A) (xC D A out) mc ms A := by
  refine vx_ofW (cc := cX1_determinantAt) (maxL := 2) (ret := (some .int)) (by decide +kernel) rfl ?_
  intro p e s m args below meth c s₁ B hml htb hv
  obtain ⟨rfl, hr, hGr⟩ := hv
  have hx := B.exec
  have hb := B.bytes
  have hret := B.returns
  have hts := atoms_spec (ws := (ws_ yX1_determinantAt cX1_determinantAt 2 (some .int))) B.pre
  have hts : ∀ w ∈ lw_all, w.before _ s = true := fun w h => hts w (List.mem_cons_of_mem _ h)
  have hown : s.vm.findClass RX1 = some m.cls := findClass_of_methodNamed B.named
  have hlocks := B.notSynchronized
  have hS : va_S A s.heap s.heap [] := va_S.rf
  have hc : cst h 0 0 h := cst_0
  have hl := lv_entry ([.ref a0, .int p1]) (n := 2) (Nat.le_of_ble_eq_true rfl)
  rw [lg_entry_eq]
  generalize (lg_sl ([.ref a0, .int p1]) ++ List.replicate (2 - (lg_sl ([.ref a0, .int p1])).length) Slot.unset).toArray = ls at hl ⊢
  have hl : lv_has ls 2 [(0, .ref a0), (1, .int p1)] := hl
  unfold GX1_determinantAt at hF
  refine lv_aload_n hx hb dX1_determinantAt_0 rfl (lv_at hl 0 rfl) ?_
  refine lv_iload_n hx hb dX1_determinantAt_1 rfl (lv_at hl 1 rfl) ?_
  obtain ⟨fc1, ec1, hF⟩ := gC_s hF
  rcases bnx_s hF with ⟨r1, u1, e1, hF⟩ | ⟨q1, u1, e1, hF⟩
  rotate_left
  · obtain ⟨mc1, ms1, hmc1, hms1⟩ := up_of (moX1_requireNumber h a0 p1 _ e1)
    have hcx := cst_call hc hmc1 hms1
    have bx1 := bud_r hcx hF hmc hms
    refine h_xthrv rfl (vx_runV (As := [.int p1]) (rest := []) ⟨hx, hb, hml, hown, hts⟩ (mgX1_requireNumber l hl0 D A h a0 p1 _ e1 mc1 ms1 hmc1 hms1) (cwV 1 hts (lw_V q1725 q1727 qs39 q101 q1728) rfl rfl rfl (by decide +kernel) ⟨Nat.le_of_ble_eq_true rfl, Nat.le_of_ble_eq_true rfl⟩) (h_preV hGr hr hS ec1 (by decide) (q := (RX1, TX1, 7)) rfl _) rfl rfl hl.1 rfl (lv_room (Nat.le_of_ble_eq_true rfl)) dX1_determinantAt_2 ⟨bx1.1, bx1.2⟩) hS (fun E9 q9 u9 H locs ce9 e1 e2 e3 hr hS h1 h2 h3 => ?_)
    exact h_xpass hGr htb hlocks hF bx1 e1 e2 e3 hr hS h1 h2 h3
  have mm1 : hle u1 out.2 := (show Mo u1 _ from mo_gQ (fun x2_ => mo_gC (mo_bnd (moX2_determinantAt n u1 x2_ p1) hle_rf (fun r3 u3 m3 => mo_ret m3)))) _ hF
  obtain ⟨mc1, ms1, hmc1, hms1⟩ := up_of (moX1_requireNumber h a0 p1 _ e1)
  replace hc := cst_call hc hmc1 hms1
  refine h_xretv rfl (vx_runV (As := [.int p1]) (rest := []) ⟨hx, hb, hml, hown, hts⟩ (mgX1_requireNumber l hl0 D A h a0 p1 _ e1 mc1 ms1 hmc1 hms1) (cwV 1 hts (lw_V q1725 q1727 qs39 q101 q1728) rfl rfl rfl (by decide +kernel) ⟨Nat.le_of_ble_eq_true rfl, Nat.le_of_ble_eq_true rfl⟩) (h_preV hGr hr hS ec1 (by decide) (q := (RX1, TX1, 7)) rfl _) rfl rfl hl.1 rfl (lv_room (Nat.le_of_ble_eq_true rfl)) dX1_determinantAt_2 ⟨(bud hc mm1 hmc hms).1, (bud hc mm1 hmc hms).2⟩) hS (fun H locs hr hS => ?_)
  refine lv_aload_n hx hb dX1_determinantAt_5 rfl (lv_at hl 0 rfl) ?_
  obtain ⟨fs2, x2_, e2, f2, hF⟩ := gQ_s hF
  refine h_get (C := RX1) (T := TX1) (N := 7) hx hb hts in_X1 hown hGr hr e2 (by decide) rfl 0 (by decide) (hts _ q633) (fun _ h9 => h9) f2 dX1_determinantAt_6 ?_
  refine lv_iload_n hx hb dX1_determinantAt_9 rfl (lv_at hl 1 rfl) ?_
  obtain ⟨fc3, ec3, hF⟩ := gC_s hF
  obtain ⟨r3, u3, e3, hF⟩ := bnd_s hF
  have mm3 : hle u3 out.2 := (show Mo u3 _ from mo_ret hle_rf) _ hF
  obtain ⟨mc3, ms3, hmc3, hms3⟩ := up_of (moX2_determinantAt n u1 x2_ p1 _ e3)
  replace hc := cst_call hc hmc3 hms3
  refine h_calli (va_runV (As := [.int p1]) (rest := []) ⟨hx, hb, hml, hown, hts⟩ (mgX2_determinantAt l D A u1 n x2_ p1 _ e3 mc3 ms3 hmc3 hms3) (cwV 1 hts (lw_V q1172 q1173 q1174 q102 q1175) rfl rfl rfl (by decide +kernel) ⟨Nat.le_of_ble_eq_true rfl, Nat.le_of_ble_eq_true rfl⟩) (h_preV hGr hr hS ec3 (by decide) (q := (RX2, TX2, 11)) rfl _) rfl rfl hl.1 rfl (lv_room (Nat.le_of_ble_eq_true rfl)) dX1_determinantAt_10 ⟨(bud hc mm3 hmc hms).1, (bud hc mm3 hmc hms).2⟩) hS (fun rr uu H locs hw hr hS => ?_)
  obtain rfl : u3 = uu := (congrArg Prod.snd hw).symm
  obtain rfl : r3 = rr := (congrArg Prod.fst hw).symm
  have bz := bud_r hc hF hmc hms
  refine vx_ret ?_
  refine W.widen (k := mc) (n := ms) bz.1 bz.2 ?_
  exact W.iret (v := r3) hx hb hret (fun t ht hWm => ⟨⟨r3, u3, rfl, Option.some.inj hF, h_end hGr hr hS ht hWm⟩, hS.F ht⟩) hS.2.2 dX1_determinantAt_13

def GX1_dimension (n : Nat) (h : Hp) (a0 : Nat) (p1 : Int32) : Option ((Int32 ⊕ Xq) × Hp) := gC h a0 1 (bnx (GX1_requireNumber h a0 p1) (fun r1 u1 => gQ u1 a0 1 0 (fun x2_ => gC u1 x2_ 2 (bnd (GX2_dimension n u1 x2_ p1) (fun r3 u3 => some (.inl r3, u3))))))
theorem moX1_dimension (n : Nat) (h : Hp) (a0 : Nat) (p1 : Int32) : Mo h (GX1_dimension n h a0 p1) := by
  unfold GX1_dimension
  exact mo_gC (mo_bnx (moX1_requireNumber h a0 p1) hle_rf (fun r1 u1 m1 => mo_gQ (fun x2_ => mo_gC (mo_bnd (moX2_dimension n u1 x2_ p1) m1 (fun r3 u3 m3 => mo_ret m3)))))
set_option maxHeartbeats 4000000 in
set_option maxRecDepth 100000 in
theorem mgX1_dimension (l : Launch) (hl0 : l.stackTraces = false) (D : HD) (A : Nat → Prop) (h : Hp) (n : Nat) (a0 : Nat) (p1 : Int32) (out : (Int32 ⊕ Xq) × Hp) (hF : GX1_dimension n h a0 p1 = some out) (mc ms : Nat) (hmc : hCc out.2 = hCc h + mc) (hms : hSl out.2 = hSl h + ms) : vx_Met l yX1_dimension (ws_ yX1_dimension cX1_dimension 2 (some .int)) ({ frames := 10, cells := mc, slots := ms, locals := 3142 }) (va_Pc [.ref a0, .int p1] (hW D A h)) (va_Qi (fun r u => ((.inl r : Int32 ⊕ Xq), u) = out) (hW D A) A) (xC D A out) mc ms A := by
  refine vx_ofW (cc := cX1_dimension) (maxL := 2) (ret := (some .int)) (by decide +kernel) rfl ?_
  intro p e s m args below meth c s₁ B hml htb hv
  obtain ⟨rfl, hr, hGr⟩ := hv
  have hx := B.exec
  have hb := B.bytes
  have hret := B.returns
  have hts := atoms_spec (ws := (ws_ yX1_dimension cX1_dimension 2 (some .int))) B.pre
  have hts : ∀ w ∈ lw_all, w.before _ s = true := fun w h => hts w (List.mem_cons_of_mem _ h)
  have hown : s.vm.findClass RX1 = some m.cls := findClass_of_methodNamed B.named
  have hlocks := B.notSynchronized
  have hS : va_S A s.heap s.heap [] := va_S.rf
  have hc : cst h 0 0 h := cst_0
  have hl := lv_entry ([.ref a0, .int p1]) (n := 2) (Nat.le_of_ble_eq_true rfl)
  rw [lg_entry_eq]
  generalize (lg_sl ([.ref a0, .int p1]) ++ List.replicate (2 - (lg_sl ([.ref a0, .int p1])).length) Slot.unset).toArray = ls at hl ⊢
  have hl : lv_has ls 2 [(0, .ref a0), (1, .int p1)] := hl
  unfold GX1_dimension at hF
  refine lv_aload_n hx hb dX1_dimension_0 rfl (lv_at hl 0 rfl) ?_
  refine lv_iload_n hx hb dX1_dimension_1 rfl (lv_at hl 1 rfl) ?_
  obtain ⟨fc1, ec1, hF⟩ := gC_s hF
  rcases bnx_s hF with ⟨r1, u1, e1, hF⟩ | ⟨q1, u1, e1, hF⟩
  rotate_left
  · obtain ⟨mc1, ms1, hmc1, hms1⟩ := up_of (moX1_requireNumber h a0 p1 _ e1)
    have hcx := cst_call hc hmc1 hms1
    have bx1 := bud_r hcx hF hmc hms
    refine h_xthrv rfl (vx_runV (As := [.int p1]) (rest := []) ⟨hx, hb, hml, hown, hts⟩ (mgX1_requireNumber l hl0 D A h a0 p1 _ e1 mc1 ms1 hmc1 hms1) (cwV 1 hts (lw_V q1725 q1727 qs39 q101 q1728) rfl rfl rfl (by decide +kernel) ⟨Nat.le_of_ble_eq_true rfl, Nat.le_of_ble_eq_true rfl⟩) (h_preV hGr hr hS ec1 (by decide) (q := (RX1, TX1, 7)) rfl _) rfl rfl hl.1 rfl (lv_room (Nat.le_of_ble_eq_true rfl)) dX1_dimension_2 ⟨bx1.1, bx1.2⟩) hS (fun E9 q9 u9 H locs ce9 e1 e2 e3 hr hS h1 h2 h3 => ?_)
    exact h_xpass hGr htb hlocks hF bx1 e1 e2 e3 hr hS h1 h2 h3
  have mm1 : hle u1 out.2 := (show Mo u1 _ from mo_gQ (fun x2_ => mo_gC (mo_bnd (moX2_dimension n u1 x2_ p1) hle_rf (fun r3 u3 m3 => mo_ret m3)))) _ hF
  obtain ⟨mc1, ms1, hmc1, hms1⟩ := up_of (moX1_requireNumber h a0 p1 _ e1)
  replace hc := cst_call hc hmc1 hms1
  refine h_xretv rfl (vx_runV (As := [.int p1]) (rest := []) ⟨hx, hb, hml, hown, hts⟩ (mgX1_requireNumber l hl0 D A h a0 p1 _ e1 mc1 ms1 hmc1 hms1) (cwV 1 hts (lw_V q1725 q1727 qs39 q101 q1728) rfl rfl rfl (by decide +kernel) ⟨Nat.le_of_ble_eq_true rfl, Nat.le_of_ble_eq_true rfl⟩) (h_preV hGr hr hS ec1 (by decide) (q := (RX1, TX1, 7)) rfl _) rfl rfl hl.1 rfl (lv_room (Nat.le_of_ble_eq_true rfl)) dX1_dimension_2 ⟨(bud hc mm1 hmc hms).1, (bud hc mm1 hmc hms).2⟩) hS (fun H locs hr hS => ?_)
  refine lv_aload_n hx hb dX1_dimension_5 rfl (lv_at hl 0 rfl) ?_
  obtain ⟨fs2, x2_, e2, f2, hF⟩ := gQ_s hF
  refine h_get (C := RX1) (T := TX1) (N := 7) hx hb hts in_X1 hown hGr hr e2 (by decide) rfl 0 (by decide) (hts _ q633) (fun _ h9 => h9) f2 dX1_dimension_6 ?_
  refine lv_iload_n hx hb dX1_dimension_9 rfl (lv_at hl 1 rfl) ?_
  obtain ⟨fc3, ec3, hF⟩ := gC_s hF
  obtain ⟨r3, u3, e3, hF⟩ := bnd_s hF
  have mm3 : hle u3 out.2 := (show Mo u3 _ from mo_ret hle_rf) _ hF
  obtain ⟨mc3, ms3, hmc3, hms3⟩ := up_of (moX2_dimension n u1 x2_ p1 _ e3)
  replace hc := cst_call hc hmc3 hms3
  refine h_calli (va_runV (As := [.int p1]) (rest := []) ⟨hx, hb, hml, hown, hts⟩ (mgX2_dimension l D A u1 n x2_ p1 _ e3 mc3 ms3 hmc3 hms3) (cwV 1 hts (lw_V q1191 q1192 q1193 q102 q1194) rfl rfl rfl (by decide +kernel) ⟨Nat.le_of_ble_eq_true rfl, Nat.le_of_ble_eq_true rfl⟩) (h_preV hGr hr hS ec3 (by decide) (q := (RX2, TX2, 11)) rfl _) rfl rfl hl.1 rfl (lv_room (Nat.le_of_ble_eq_true rfl)) dX1_dimension_10 ⟨(bud hc mm3 hmc hms).1, (bud hc mm3 hmc hms).2⟩) hS (fun rr uu H locs hw hr hS => ?_)
  obtain rfl : u3 = uu := (congrArg Prod.snd hw).symm
  obtain rfl : r3 = rr := (congrArg Prod.fst hw).symm
  have bz := bud_r hc hF hmc hms
  refine vx_ret ?_
  refine W.widen (k := mc) (n := ms) bz.1 bz.2 ?_
  exact W.iret (v := r3) hx hb hret (fun t ht hWm => ⟨⟨r3, u3, rfl, Option.some.inj hF, h_end hGr hr hS ht hWm⟩, hS.F ht⟩) hS.2.2 dX1_dimension_13

def GX1_eigenvalues_1 (R : Nat → Hp → Nat → Int32 → Int32 → Option (Int32 × Hp)) (n : Nat) (h : Hp) (b0 : Nat) (x1 : Int32) (x2 : Int32) : Option (Int32 × Hp) := gQ h b0 1 0 (fun x1_ => gQ h x1_ 2 0 (fun x2_ => gI h x2_ 3 0 (fun x3_ => if x3_ ≤ x2 then some (x1, h) else gQ h b0 1 0 (fun x5_ => gC h x5_ 2 (bnd (GX2_determinantAt n h x5_ x2) (fun r6 u6 => if r6 = 0 then R 1 u6 b0 (x1 + 1) (x2 + 1) else R 1 u6 b0 (x1 + 0) (x2 + 1)))))))
def GX1_eigenvalues_r : Nat → Nat → Hp → Nat → Int32 → Int32 → Option (Int32 × Hp)
  | 0 => fun _ _ _ _ _ => none
  | n + 1 => fun k => match k with  | _ => GX1_eigenvalues_1 (GX1_eigenvalues_r n) n
def GX1_eigenvalues_0 (R : Nat → Hp → Nat → Int32 → Int32 → Option (Int32 × Hp)) (n : Nat) (h : Hp) (a0 : Nat) : Option (Int32 × Hp) := R 1 h a0 (0 : Int32) (0 : Int32)
def GX1_eigenvalues (n : Nat) (h : Hp) (a0 : Nat) : Option (Int32 × Hp) := GX1_eigenvalues_0 (GX1_eigenvalues_r n) n h a0
theorem moX1_eigenvalues_r (n : Nat) : (∀ (h : Hp) (b0 : Nat) (x1 : Int32) (x2 : Int32), Mo h (GX1_eigenvalues_r n 1 h b0 x1 x2)) := by
  induction n with
  | zero => exact (fun _ _ _ _ => mo_no)
  | succ n ih =>
    have ml1 := ih
    exact (fun h b0 x1 x2 => show Mo h (GX1_eigenvalues_1 (GX1_eigenvalues_r n) n h b0 x1 x2) from by unfold GX1_eigenvalues_1; exact mo_gQ (fun x1_ => mo_gQ (fun x2_ => mo_gI (fun x3_ => mo_ite (mo_ret hle_rf) (mo_gQ (fun x5_ => mo_gC (mo_bnd (moX2_determinantAt n h x5_ x2) hle_rf (fun r6 u6 m6 => mo_ite (mo_tr m6 (ml1 u6 b0 (x1 + 1) (x2 + 1))) (mo_tr m6 (ml1 u6 b0 (x1 + 0) (x2 + 1)))))))))))
theorem moX1_eigenvalues (n : Nat) (h : Hp) (a0 : Nat) : Mo h (GX1_eigenvalues n h a0) := by
  have ml1 := moX1_eigenvalues_r n
  unfold GX1_eigenvalues GX1_eigenvalues_0
  exact mo_tr hle_rf (ml1 h a0 (0 : Int32) (0 : Int32))
set_option maxHeartbeats 4000000 in
set_option maxRecDepth 100000 in
theorem mgX1_eigenvalues (l : Launch) (D : HD) (A : Nat → Prop) (h : Hp) (n : Nat) (a0 : Nat) (out : Int32 × Hp) (hF : GX1_eigenvalues n h a0 = some out) (mc ms : Nat) (hmc : hCc out.2 = hCc h + mc) (hms : hSl out.2 = hSl h + ms) : Met l yX1_eigenvalues (ws_ yX1_eigenvalues cX1_eigenvalues 3 (some .int)) ({ frames := 10, cells := mc, slots := ms, locals := 3142 }) (va_Pc [.ref a0] (hW D A h)) (va_Qi (fun r u => (r, u) = out) (hW D A) A) mc ms A := by
  refine Met.ofW (cc := cX1_eigenvalues) (maxL := 3) (ret := (some .int)) (by decide +kernel) rfl ?_
  intro p e s m args below meth c s₁ B hml hv
  obtain ⟨rfl, hr, hGr⟩ := hv
  have hx := B.exec
  have hb := B.bytes
  have hret := B.returns
  have hts := atoms_spec (ws := (ws_ yX1_eigenvalues cX1_eigenvalues 3 (some .int))) B.pre
  have hts : ∀ w ∈ lw_all, w.before _ s = true := fun w h => hts w (List.mem_cons_of_mem _ h)
  have hown : s.vm.findClass RX1 = some m.cls := findClass_of_methodNamed B.named
  have hlocks := B.notSynchronized
  have hS : va_S A s.heap s.heap [] := va_S.rf
  have hc : cst h 0 0 h := cst_0
  have hl := lv_entry ([.ref a0]) (n := 3) (Nat.le_of_ble_eq_true rfl)
  rw [lg_entry_eq]
  generalize (lg_sl ([.ref a0]) ++ List.replicate (3 - (lg_sl ([.ref a0])).length) Slot.unset).toArray = ls at hl ⊢
  have hl : lv_has ls 3 [(0, .ref a0)] := hl
  obtain ⟨h0, eh0⟩ : ∃ z, z = h := ⟨_, rfl⟩
  rw [← eh0] at hmc hms
  have loop : ∀ n : Nat, (∀ (h : Hp) (b0 : Nat) (x1 : Int32) (x2 : Int32), GX1_eigenvalues_r n 1 h b0 x1 x2 = some out → ∀ (H : Heap) (locs : List Loc) (cells slots : Nat), cst h0 cells slots h → hR D A h H → va_S A s.heap H locs → ∀ ls : Array Slot, lv_has ls 3 [(0, .ref b0), (1, .int x1), (2, .int x2)] → W p l e (headSpec (ws_ yX1_eigenvalues cX1_eigenvalues 3 (some .int)) ({ frames := 10, cells := mc, slots := ms, locals := 3142 })).room s m ([.ref a0] : List Value).toArray below meth c H locs cells slots (MQ below (va_Qi (fun r u => (r, u) = out) (hW D A) A) ([.ref a0] : List Value).toArray s mc ms A) (F0 m 4 ls [])) := by
    intro n
    induction n with
    | zero => exact (fun _ _ _ _ h => nomatch h)
    | succ n ih =>
      have lp1 := ih
      have ml1 := moX1_eigenvalues_r n
      intro h b0 x1 x2 hF H locs cells slots hc hr hS ls hl
      replace hF : GX1_eigenvalues_1 (GX1_eigenvalues_r n) n h b0 x1 x2 = some out := hF
      unfold GX1_eigenvalues_1 at hF
      refine lv_iload_n hx hb dX1_eigenvalues_4 rfl (lv_at hl 2 rfl) ?_
      refine lv_aload_n hx hb dX1_eigenvalues_5 rfl (lv_at hl 0 rfl) ?_
      obtain ⟨fs1, x1_, e1, f1, hF⟩ := gQ_s hF
      refine h_get (C := RX1) (T := TX1) (N := 7) hx hb hts in_X1 hown hGr hr e1 (by decide) rfl 0 (by decide) (hts _ q633) (fun _ h9 => h9) f1 dX1_eigenvalues_6 ?_
      obtain ⟨fs2, x2_, e2, f2, hF⟩ := gQ_s hF
      refine h_getN (C := RX2) (T := TX2) (N := 11) hx hb hts in_X2 hown hGr hr e2 (by decide) rfl 0 (by decide) (va_Nw.use rfl (hGr.nw q564 rfl)) (fun _ h9 => h9) f2 dX1_eigenvalues_9 ?_
      obtain ⟨fs3, x3_, e3, f3, hF⟩ := gI_s hF
      refine h_getN (C := RX3) (T := TX3) (N := 2) hx hb hts in_X3 hown hGr hr e3 (by decide) rfl 0 (by decide) (va_Nw.use rfl (hGr.nw q168 rfl)) (fun _ h9 => h9) f3 dX1_eigenvalues_12 ?_
      refine lv_icmp_ge (tgt := 43) hx hb dX1_eigenvalues_15 (by decide) (fun c4 => ?_) (fun c4 => ?_)
      · replace hF := it_t c4 hF
        refine lv_iload_n hx hb dX1_eigenvalues_43 rfl (lv_at hl 1 rfl) ?_
        have bz := bud_r hc hF hmc hms
        refine W.widen (k := mc) (n := ms) bz.1 bz.2 ?_
        exact W.iret (v := x1) hx hb hret (fun t ht hWm => ⟨⟨x1, h, rfl, Option.some.inj hF, h_end hGr hr hS ht hWm⟩, hS.F ht⟩) hS.2.2 dX1_eigenvalues_44
      · replace hF := it_f c4 hF
        refine lv_iload_n hx hb dX1_eigenvalues_18 rfl (lv_at hl 1 rfl) ?_
        refine lv_aload_n hx hb dX1_eigenvalues_19 rfl (lv_at hl 0 rfl) ?_
        obtain ⟨fs5, x5_, e5, f5, hF⟩ := gQ_s hF
        refine h_get (C := RX1) (T := TX1) (N := 7) hx hb hts in_X1 hown hGr hr e5 (by decide) rfl 0 (by decide) (hts _ q633) (fun _ h9 => h9) f5 dX1_eigenvalues_20 ?_
        refine lv_iload_n hx hb dX1_eigenvalues_23 rfl (lv_at hl 2 rfl) ?_
        obtain ⟨fc6, ec6, hF⟩ := gC_s hF
        obtain ⟨r6, u6, e6, hF⟩ := bnd_s hF
        have mm6 : hle u6 out.2 := (show Mo u6 _ from mo_ite (mo_tr hle_rf (ml1 u6 b0 (x1 + 1) (x2 + 1))) (mo_tr hle_rf (ml1 u6 b0 (x1 + 0) (x2 + 1)))) _ hF
        obtain ⟨mc6, ms6, hmc6, hms6⟩ := up_of (moX2_determinantAt n h x5_ x2 _ e6)
        replace hc := cst_call hc hmc6 hms6
        refine h_calli (va_runV (As := [.int x2]) (rest := [.int x1]) ⟨hx, hb, hml, hown, hts⟩ (mgX2_determinantAt l D A h n x5_ x2 _ e6 mc6 ms6 hmc6 hms6) (cwV 1 hts (lw_V q1172 q1173 q1174 q102 q1175) rfl rfl rfl (by decide +kernel) ⟨Nat.le_of_ble_eq_true rfl, Nat.le_of_ble_eq_true rfl⟩) (h_preV hGr hr hS ec6 (by decide) (q := (RX2, TX2, 11)) rfl _) rfl rfl hl.1 rfl (lv_room (Nat.le_of_ble_eq_true rfl)) dX1_eigenvalues_24 ⟨(bud hc mm6 hmc hms).1, (bud hc mm6 hmc hms).2⟩) hS (fun rr uu H locs hw hr hS => ?_)
        obtain rfl : u6 = uu := (congrArg Prod.snd hw).symm
        obtain rfl : r6 = rr := (congrArg Prod.fst hw).symm
        refine lv_if_ne (tgt := 34) hx hb dX1_eigenvalues_27 (by decide) (fun c7 => ?_) (fun c7 => ?_)
        · replace hF := it_f c7 hF
          refine lv_iconst (v := 0) hx hb dX1_eigenvalues_34 (by decide) ?_
          refine lv_iadd hx hb dX1_eigenvalues_35 ?_
          refine lv_istore_n (lv' := [(1, .int (x1 + 0)), (0, .ref b0), (2, .int x2)]) hx hb dX1_eigenvalues_36 rfl hl (by decide) rfl (fun ls hl => ?_)
          refine lv_iinc (v := (x2 + 1)) (lv' := [(2, .int (x2 + 1)), (1, .int (x1 + 0)), (0, .ref b0)]) hx hb dX1_eigenvalues_37 hl (k := 2) rfl rfl (by decide) rfl (fun ls hl => ?_)
          refine lv_goto (tgt := 4) hx hb dX1_eigenvalues_40 (by decide) ?_
          exact lp1 u6 b0 (x1 + 0) (x2 + 1) hF _ _ _ _ hc hr hS ls (lv_sub hl [2, 1, 0] rfl)
        · replace hF := it_t c7 hF
          refine lv_iconst (v := 1) hx hb dX1_eigenvalues_30 (by decide) ?_
          refine lv_goto (tgt := 35) hx hb dX1_eigenvalues_31 (by decide) ?_
          refine lv_iadd hx hb dX1_eigenvalues_35 ?_
          refine lv_istore_n (lv' := [(1, .int (x1 + 1)), (0, .ref b0), (2, .int x2)]) hx hb dX1_eigenvalues_36 rfl hl (by decide) rfl (fun ls hl => ?_)
          refine lv_iinc (v := (x2 + 1)) (lv' := [(2, .int (x2 + 1)), (1, .int (x1 + 1)), (0, .ref b0)]) hx hb dX1_eigenvalues_37 hl (k := 2) rfl rfl (by decide) rfl (fun ls hl => ?_)
          refine lv_goto (tgt := 4) hx hb dX1_eigenvalues_40 (by decide) ?_
          exact lp1 u6 b0 (x1 + 1) (x2 + 1) hF _ _ _ _ hc hr hS ls (lv_sub hl [2, 1, 0] rfl)
  have lp1 := loop n
  have ml1 := moX1_eigenvalues_r n
  have hc : cst h0 0 0 h := by rw [eh0]; exact cst_0
  unfold GX1_eigenvalues GX1_eigenvalues_0 at hF
  refine lv_iconst (v := 0) hx hb dX1_eigenvalues_0 (by decide) ?_
  refine lv_istore_n (lv' := [(1, .int 0), (0, .ref a0)]) hx hb dX1_eigenvalues_1 rfl hl (by decide) rfl (fun ls hl => ?_)
  refine lv_iconst (v := 0) hx hb dX1_eigenvalues_2 (by decide) ?_
  refine lv_istore_n (lv' := [(2, .int 0), (1, .int 0), (0, .ref a0)]) hx hb dX1_eigenvalues_3 rfl hl (by decide) rfl (fun ls hl => ?_)
  exact lp1 h a0 (0 : Int32) (0 : Int32) hF _ _ _ _ hc hr hS ls (lv_sub hl [2, 1, 0] rfl)

def GX1_isSplit_1 (R : Nat → Hp → Nat → Int32 → Int32 → Option (Int32 × Hp)) (n : Nat) (h : Hp) (b0 : Nat) (x1 : Int32) (x2 : Int32) : Option (Int32 × Hp) := gQ h b0 1 0 (fun x1_ => gQ h x1_ 2 0 (fun x2_ => gI h x2_ 3 0 (fun x3_ => if x3_ ≤ x2 then gQ h b0 1 0 (fun x5_ => gI h x5_ 2 1 (fun x6_ => if x1 = x6_ then some ((1 : Int32), h) else some ((0 : Int32), h))) else gQ h b0 1 0 (fun x8_ => gC h x8_ 2 (bnd (GX2_dimension n h x8_ x2) (fun r9 u9 => R 1 u9 b0 (x1 + r9) (x2 + 1)))))))
def GX1_isSplit_r : Nat → Nat → Hp → Nat → Int32 → Int32 → Option (Int32 × Hp)
  | 0 => fun _ _ _ _ _ => none
  | n + 1 => fun k => match k with  | _ => GX1_isSplit_1 (GX1_isSplit_r n) n
def GX1_isSplit_0 (R : Nat → Hp → Nat → Int32 → Int32 → Option (Int32 × Hp)) (n : Nat) (h : Hp) (a0 : Nat) : Option (Int32 × Hp) := R 1 h a0 (0 : Int32) (0 : Int32)
def GX1_isSplit (n : Nat) (h : Hp) (a0 : Nat) : Option (Int32 × Hp) := GX1_isSplit_0 (GX1_isSplit_r n) n h a0
theorem moX1_isSplit_r (n : Nat) : (∀ (h : Hp) (b0 : Nat) (x1 : Int32) (x2 : Int32), Mo h (GX1_isSplit_r n 1 h b0 x1 x2)) := by
  induction n with
  | zero => exact (fun _ _ _ _ => mo_no)
  | succ n ih =>
    have ml1 := ih
    exact (fun h b0 x1 x2 => show Mo h (GX1_isSplit_1 (GX1_isSplit_r n) n h b0 x1 x2) from by unfold GX1_isSplit_1; exact mo_gQ (fun x1_ => mo_gQ (fun x2_ => mo_gI (fun x3_ => mo_ite (mo_gQ (fun x5_ => mo_gI (fun x6_ => mo_ite (mo_ret hle_rf) (mo_ret hle_rf)))) (mo_gQ (fun x8_ => mo_gC (mo_bnd (moX2_dimension n h x8_ x2) hle_rf (fun r9 u9 m9 => mo_tr m9 (ml1 u9 b0 (x1 + r9) (x2 + 1))))))))))
theorem moX1_isSplit (n : Nat) (h : Hp) (a0 : Nat) : Mo h (GX1_isSplit n h a0) := by
  have ml1 := moX1_isSplit_r n
  unfold GX1_isSplit GX1_isSplit_0
  exact mo_tr hle_rf (ml1 h a0 (0 : Int32) (0 : Int32))
set_option maxHeartbeats 4000000 in
set_option maxRecDepth 100000 in
theorem mgX1_isSplit (l : Launch) (D : HD) (A : Nat → Prop) (h : Hp) (n : Nat) (a0 : Nat) (out : Int32 × Hp) (hF : GX1_isSplit n h a0 = some out) (mc ms : Nat) (hmc : hCc out.2 = hCc h + mc) (hms : hSl out.2 = hSl h + ms) : Met l yX1_isSplit (ws_ yX1_isSplit cX1_isSplit 3 (some .boolean)) ({ frames := 10, cells := mc, slots := ms, locals := 3142 }) (va_Pc [.ref a0] (hW D A h)) (va_Qi (fun r u => (r, u) = out) (hW D A) A) mc ms A := by
  refine Met.ofW (cc := cX1_isSplit) (maxL := 3) (ret := (some .boolean)) (by decide +kernel) rfl ?_
  intro p e s m args below meth c s₁ B hml hv
  obtain ⟨rfl, hr, hGr⟩ := hv
  have hx := B.exec
  have hb := B.bytes
  have hret := B.returns
  have hts := atoms_spec (ws := (ws_ yX1_isSplit cX1_isSplit 3 (some .boolean))) B.pre
  have hts : ∀ w ∈ lw_all, w.before _ s = true := fun w h => hts w (List.mem_cons_of_mem _ h)
  have hown : s.vm.findClass RX1 = some m.cls := findClass_of_methodNamed B.named
  have hlocks := B.notSynchronized
  have hS : va_S A s.heap s.heap [] := va_S.rf
  have hc : cst h 0 0 h := cst_0
  have hl := lv_entry ([.ref a0]) (n := 3) (Nat.le_of_ble_eq_true rfl)
  rw [lg_entry_eq]
  generalize (lg_sl ([.ref a0]) ++ List.replicate (3 - (lg_sl ([.ref a0])).length) Slot.unset).toArray = ls at hl ⊢
  have hl : lv_has ls 3 [(0, .ref a0)] := hl
  obtain ⟨h0, eh0⟩ : ∃ z, z = h := ⟨_, rfl⟩
  rw [← eh0] at hmc hms
  have loop : ∀ n : Nat, (∀ (h : Hp) (b0 : Nat) (x1 : Int32) (x2 : Int32), GX1_isSplit_r n 1 h b0 x1 x2 = some out → ∀ (H : Heap) (locs : List Loc) (cells slots : Nat), cst h0 cells slots h → hR D A h H → va_S A s.heap H locs → ∀ ls : Array Slot, lv_has ls 3 [(0, .ref b0), (1, .int x1), (2, .int x2)] → W p l e (headSpec (ws_ yX1_isSplit cX1_isSplit 3 (some .boolean)) ({ frames := 10, cells := mc, slots := ms, locals := 3142 })).room s m ([.ref a0] : List Value).toArray below meth c H locs cells slots (MQ below (va_Qi (fun r u => (r, u) = out) (hW D A) A) ([.ref a0] : List Value).toArray s mc ms A) (F0 m 4 ls [])) := by
    intro n
    induction n with
    | zero => exact (fun _ _ _ _ h => nomatch h)
    | succ n ih =>
      have lp1 := ih
      have ml1 := moX1_isSplit_r n
      intro h b0 x1 x2 hF H locs cells slots hc hr hS ls hl
      replace hF : GX1_isSplit_1 (GX1_isSplit_r n) n h b0 x1 x2 = some out := hF
      unfold GX1_isSplit_1 at hF
      refine lv_iload_n hx hb dX1_isSplit_4 rfl (lv_at hl 2 rfl) ?_
      refine lv_aload_n hx hb dX1_isSplit_5 rfl (lv_at hl 0 rfl) ?_
      obtain ⟨fs1, x1_, e1, f1, hF⟩ := gQ_s hF
      refine h_get (C := RX1) (T := TX1) (N := 7) hx hb hts in_X1 hown hGr hr e1 (by decide) rfl 0 (by decide) (hts _ q633) (fun _ h9 => h9) f1 dX1_isSplit_6 ?_
      obtain ⟨fs2, x2_, e2, f2, hF⟩ := gQ_s hF
      refine h_getN (C := RX2) (T := TX2) (N := 11) hx hb hts in_X2 hown hGr hr e2 (by decide) rfl 0 (by decide) (va_Nw.use rfl (hGr.nw q564 rfl)) (fun _ h9 => h9) f2 dX1_isSplit_9 ?_
      obtain ⟨fs3, x3_, e3, f3, hF⟩ := gI_s hF
      refine h_getN (C := RX3) (T := TX3) (N := 2) hx hb hts in_X3 hown hGr hr e3 (by decide) rfl 0 (by decide) (va_Nw.use rfl (hGr.nw q168 rfl)) (fun _ h9 => h9) f3 dX1_isSplit_12 ?_
      refine lv_icmp_ge (tgt := 35) hx hb dX1_isSplit_15 (by decide) (fun c4 => ?_) (fun c4 => ?_)
      · replace hF := it_t c4 hF
        refine lv_iload_n hx hb dX1_isSplit_35 rfl (lv_at hl 1 rfl) ?_
        refine lv_aload_n hx hb dX1_isSplit_36 rfl (lv_at hl 0 rfl) ?_
        obtain ⟨fs5, x5_, e5, f5, hF⟩ := gQ_s hF
        refine h_get (C := RX1) (T := TX1) (N := 7) hx hb hts in_X1 hown hGr hr e5 (by decide) rfl 0 (by decide) (hts _ q633) (fun _ h9 => h9) f5 dX1_isSplit_37 ?_
        obtain ⟨fs6, x6_, e6, f6, hF⟩ := gI_s hF
        refine h_getN (C := RX2) (T := TX2) (N := 11) hx hb hts in_X2 hown hGr hr e6 (by decide) rfl 1 (by decide) (va_Nw.use rfl (hGr.nw q567 rfl)) (fun _ h9 => h9) f6 dX1_isSplit_40 ?_
        refine lv_icmp_ne (tgt := 50) hx hb dX1_isSplit_43 (by decide) (fun c7 => ?_) (fun c7 => ?_)
        · replace hF := it_f c7 hF
          refine lv_iconst (v := 0) hx hb dX1_isSplit_50 (by decide) ?_
          have bz := bud_r hc hF hmc hms
          refine W.widen (k := mc) (n := ms) bz.1 bz.2 ?_
          exact W.zret (v := (0 : Int32)) hx hb hret rfl (fun t ht hWm => ⟨⟨(0 : Int32), h, rfl, Option.some.inj hF, h_end hGr hr hS ht hWm⟩, hS.F ht⟩) hS.2.2 dX1_isSplit_51
        · replace hF := it_t c7 hF
          refine lv_iconst (v := 1) hx hb dX1_isSplit_46 (by decide) ?_
          refine lv_goto (tgt := 51) hx hb dX1_isSplit_47 (by decide) ?_
          have bz := bud_r hc hF hmc hms
          refine W.widen (k := mc) (n := ms) bz.1 bz.2 ?_
          exact W.zret (v := (1 : Int32)) hx hb hret rfl (fun t ht hWm => ⟨⟨(1 : Int32), h, rfl, Option.some.inj hF, h_end hGr hr hS ht hWm⟩, hS.F ht⟩) hS.2.2 dX1_isSplit_51
      · replace hF := it_f c4 hF
        refine lv_iload_n hx hb dX1_isSplit_18 rfl (lv_at hl 1 rfl) ?_
        refine lv_aload_n hx hb dX1_isSplit_19 rfl (lv_at hl 0 rfl) ?_
        obtain ⟨fs8, x8_, e8, f8, hF⟩ := gQ_s hF
        refine h_get (C := RX1) (T := TX1) (N := 7) hx hb hts in_X1 hown hGr hr e8 (by decide) rfl 0 (by decide) (hts _ q633) (fun _ h9 => h9) f8 dX1_isSplit_20 ?_
        refine lv_iload_n hx hb dX1_isSplit_23 rfl (lv_at hl 2 rfl) ?_
        obtain ⟨fc9, ec9, hF⟩ := gC_s hF
        obtain ⟨r9, u9, e9, hF⟩ := bnd_s hF
        have mm9 : hle u9 out.2 := (show Mo u9 _ from mo_tr hle_rf (ml1 u9 b0 (x1 + r9) (x2 + 1))) _ hF
        obtain ⟨mc9, ms9, hmc9, hms9⟩ := up_of (moX2_dimension n h x8_ x2 _ e9)
        replace hc := cst_call hc hmc9 hms9
        refine h_calli (va_runV (As := [.int x2]) (rest := [.int x1]) ⟨hx, hb, hml, hown, hts⟩ (mgX2_dimension l D A h n x8_ x2 _ e9 mc9 ms9 hmc9 hms9) (cwV 1 hts (lw_V q1191 q1192 q1193 q102 q1194) rfl rfl rfl (by decide +kernel) ⟨Nat.le_of_ble_eq_true rfl, Nat.le_of_ble_eq_true rfl⟩) (h_preV hGr hr hS ec9 (by decide) (q := (RX2, TX2, 11)) rfl _) rfl rfl hl.1 rfl (lv_room (Nat.le_of_ble_eq_true rfl)) dX1_isSplit_24 ⟨(bud hc mm9 hmc hms).1, (bud hc mm9 hmc hms).2⟩) hS (fun rr uu H locs hw hr hS => ?_)
        obtain rfl : u9 = uu := (congrArg Prod.snd hw).symm
        obtain rfl : r9 = rr := (congrArg Prod.fst hw).symm
        refine lv_iadd hx hb dX1_isSplit_27 ?_
        refine lv_istore_n (lv' := [(1, .int (x1 + r9)), (0, .ref b0), (2, .int x2)]) hx hb dX1_isSplit_28 rfl hl (by decide) rfl (fun ls hl => ?_)
        refine lv_iinc (v := (x2 + 1)) (lv' := [(2, .int (x2 + 1)), (1, .int (x1 + r9)), (0, .ref b0)]) hx hb dX1_isSplit_29 hl (k := 2) rfl rfl (by decide) rfl (fun ls hl => ?_)
        refine lv_goto (tgt := 4) hx hb dX1_isSplit_32 (by decide) ?_
        exact lp1 u9 b0 (x1 + r9) (x2 + 1) hF _ _ _ _ hc hr hS ls (lv_sub hl [2, 1, 0] rfl)
  have lp1 := loop n
  have ml1 := moX1_isSplit_r n
  have hc : cst h0 0 0 h := by rw [eh0]; exact cst_0
  unfold GX1_isSplit GX1_isSplit_0 at hF
  refine lv_iconst (v := 0) hx hb dX1_isSplit_0 (by decide) ?_
  refine lv_istore_n (lv' := [(1, .int 0), (0, .ref a0)]) hx hb dX1_isSplit_1 rfl hl (by decide) rfl (fun ls hl => ?_)
  refine lv_iconst (v := 0) hx hb dX1_isSplit_2 (by decide) ?_
  refine lv_istore_n (lv' := [(2, .int 0), (1, .int 0), (0, .ref a0)]) hx hb dX1_isSplit_3 rfl hl (by decide) rfl (fun ls hl => ?_)
  exact lp1 h a0 (0 : Int32) (0 : Int32) hF _ _ _ _ hc hr hS ls (lv_sub hl [2, 1, 0] rfl)

def GX1_setCell (n : Nat) (h : Hp) (a0 : Nat) (p1 : Int32) (p2 : Int32) (p3 : Int32) : Option ((Int32 ⊕ Xq) × Hp) := nA h 0 (2 : Int32) (fun a1_ h1 => sI h1 a1_ 0 (0 : Int32) p1 (fun h2 => sI h2 a1_ 0 (1 : Int32) p2 (fun h3 => gC h3 a0 1 (bnx (GX1_requirePlaces n h3 a0 a1_) (fun r4 u4 => gC u4 a0 1 (bnx (GX1_requireNumber u4 a0 p3) (fun r5 u5 => gQ u5 a0 1 0 (fun x6_ => gQ u5 x6_ 2 2 (fun x7_ => aQ u5 x7_ 4 p1 (fun x8_ => aI u5 x8_ 0 p2 (fun x9_ => gC u5 a0 1 (bnd (GX1_changed n u5 a0) (fun r10 u10 => gC u10 r10 2 (bnd (GX2_sets n u10 r10 p1 p2 p3) (fun r11 u11 => some (.inl x9_, u11))))))))))))))))
theorem moX1_setCell (n : Nat) (h : Hp) (a0 : Nat) (p1 : Int32) (p2 : Int32) (p3 : Int32) : Mo h (GX1_setCell n h a0 p1 p2 p3) := by
  unfold GX1_setCell
  exact mo_nA hle_rf (fun a1_ h1 m1 => mo_sI m1 (fun h2 m2 => mo_sI m2 (fun h3 m3 => mo_gC (mo_bnx (moX1_requirePlaces n h3 a0 a1_) m3 (fun r4 u4 m4 => mo_gC (mo_bnx (moX1_requireNumber u4 a0 p3) m4 (fun r5 u5 m5 => mo_gQ (fun x6_ => mo_gQ (fun x7_ => mo_aQ (fun x8_ => mo_aI (fun x9_ => mo_gC (mo_bnd (moX1_changed n u5 a0) m5 (fun r10 u10 m10 => mo_gC (mo_bnd (moX2_sets n u10 r10 p1 p2 p3) m10 (fun r11 u11 m11 => mo_ret m11)))))))))))))))
set_option maxHeartbeats 4000000 in
set_option maxRecDepth 100000 in
theorem mgX1_setCell (l : Launch) (hl0 : l.stackTraces = false) (D : HD) (A : Nat → Prop) (h : Hp) (n : Nat) (a0 : Nat) (p1 : Int32) (p2 : Int32) (p3 : Int32) (out : (Int32 ⊕ Xq) × Hp) (hF : GX1_setCell n h a0 p1 p2 p3 = some out) (mc ms : Nat) (hmc : hCc out.2 = hCc h + mc) (hms : hSl out.2 = hSl h + ms) : vx_Met l yX1_setCell (ws_ yX1_setCell cX1_setCell 5 (some .int)) ({ frames := 9, cells := mc, slots := ms, locals := 3123 }) (va_Pc [.ref a0, .int p1, .int p2, .int p3] (hW D A h)) (va_Qi (fun r u => ((.inl r : Int32 ⊕ Xq), u) = out) (hW D A) A) (xC D A out) mc ms A := by
  refine vx_ofW (cc := cX1_setCell) (maxL := 5) (ret := (some .int)) (by decide +kernel) rfl ?_
  intro p e s m args below meth c s₁ B hml htb hv
  obtain ⟨rfl, hr, hGr⟩ := hv
  have hx := B.exec
  have hb := B.bytes
  have hret := B.returns
  have hts := atoms_spec (ws := (ws_ yX1_setCell cX1_setCell 5 (some .int))) B.pre
  have hts : ∀ w ∈ lw_all, w.before _ s = true := fun w h => hts w (List.mem_cons_of_mem _ h)
  have hown : s.vm.findClass RX1 = some m.cls := findClass_of_methodNamed B.named
  have hlocks := B.notSynchronized
  have hS : va_S A s.heap s.heap [] := va_S.rf
  have hc : cst h 0 0 h := cst_0
  have hl := lv_entry ([.ref a0, .int p1, .int p2, .int p3]) (n := 5) (Nat.le_of_ble_eq_true rfl)
  rw [lg_entry_eq]
  generalize (lg_sl ([.ref a0, .int p1, .int p2, .int p3]) ++ List.replicate (5 - (lg_sl ([.ref a0, .int p1, .int p2, .int p3])).length) Slot.unset).toArray = ls at hl ⊢
  have hl : lv_has ls 5 [(0, .ref a0), (1, .int p1), (2, .int p2), (3, .int p3)] := hl
  unfold GX1_setCell at hF
  refine lv_aload_n hx hb dX1_setCell_0 rfl (lv_at hl 0 rfl) ?_
  refine lv_iconst (v := 2) hx hb dX1_setCell_1 (by decide) ?_
  obtain ⟨a1_, h1, ea1, eh1, g1, hF⟩ := nA_s hF
  have mm1 : hle h1 out.2 := (show Mo h1 _ from mo_sI hle_rf (fun h2 m2 => mo_sI m2 (fun h3 m3 => mo_gC (mo_bnx (moX1_requirePlaces n h3 a0 a1_) m3 (fun r4 u4 m4 => mo_gC (mo_bnx (moX1_requireNumber u4 a0 p3) m4 (fun r5 u5 m5 => mo_gQ (fun x6_ => mo_gQ (fun x7_ => mo_aQ (fun x8_ => mo_aI (fun x9_ => mo_gC (mo_bnd (moX1_changed n u5 a0) m5 (fun r10 u10 m10 => mo_gC (mo_bnd (moX2_sets n u10 r10 p1 p2 p3) m10 (fun r11 u11 m11 => mo_ret m11))))))))))))))) _ hF
  replace hc := cst_new hc eh1
  refine h_newI hx hb (hts _ q177) hGr hr hS g1 (bud hc mm1 hmc hms).1 (bud hc mm1 hmc hms).2 dX1_setCell_2 (fun H hr hS => ?_)
  rw [← eh1] at hr
  rw [← ea1]
  refine lv_dup hx hb dX1_setCell_4 rfl ?_
  refine lv_iconst (v := 0) hx hb dX1_setCell_5 (by decide) ?_
  refine lv_iload_n hx hb dX1_setCell_6 rfl (lv_at hl 1 rfl) ?_
  obtain ⟨n2, f2, e2, lo2, g2, hF⟩ := sI_s hF
  obtain ⟨h2, eh2⟩ : ∃ z, z = hPut h1 a1_ (.inl (0, n2, .inl (upd f2 ((0 : Int32)).toNatClampNeg p1))) := ⟨_, rfl⟩
  rw [← eh2] at hF
  refine h_iast hx hb hGr hr hS 0 rfl e2 (x := p1) g2 lo2 dX1_setCell_7 (fun H locs hr hS => ?_)
  rw [← eh2] at hr
  replace hc := cst_put hc eh2
  refine lv_dup hx hb dX1_setCell_8 rfl ?_
  refine lv_iconst (v := 1) hx hb dX1_setCell_9 (by decide) ?_
  refine lv_iload_n hx hb dX1_setCell_10 rfl (lv_at hl 2 rfl) ?_
  obtain ⟨n3, f3, e3, lo3, g3, hF⟩ := sI_s hF
  obtain ⟨h3, eh3⟩ : ∃ z, z = hPut h2 a1_ (.inl (0, n3, .inl (upd f3 ((1 : Int32)).toNatClampNeg p2))) := ⟨_, rfl⟩
  rw [← eh3] at hF
  refine h_iast hx hb hGr hr hS 0 rfl e3 (x := p2) g3 lo3 dX1_setCell_11 (fun H locs hr hS => ?_)
  rw [← eh3] at hr
  replace hc := cst_put hc eh3
  obtain ⟨fc4, ec4, hF⟩ := gC_s hF
  rcases bnx_s hF with ⟨r4, u4, e4, hF⟩ | ⟨q4, u4, e4, hF⟩
  rotate_left
  · obtain ⟨mc4, ms4, hmc4, hms4⟩ := up_of (moX1_requirePlaces n h3 a0 a1_ _ e4)
    have hcx := cst_call hc hmc4 hms4
    have bx4 := bud_r hcx hF hmc hms
    refine h_xthrv rfl (vx_runV (As := [.ref a1_]) (rest := []) ⟨hx, hb, hml, hown, hts⟩ (mgX1_requirePlaces l hl0 D A h3 n a0 a1_ _ e4 mc4 ms4 hmc4 hms4) (cwV 1 hts (lw_V q1689 q1691 qs38 q101 q1692) rfl rfl rfl (by decide +kernel) ⟨Nat.le_of_ble_eq_true rfl, Nat.le_of_ble_eq_true rfl⟩) (h_preV hGr hr hS ec4 (by decide) (q := (RX1, TX1, 7)) rfl _) rfl rfl hl.1 rfl (lv_room (Nat.le_of_ble_eq_true rfl)) dX1_setCell_12 ⟨bx4.1, bx4.2⟩) hS (fun E9 q9 u9 H locs ce9 e1 e2 e3 hr hS h1 h2 h3 => ?_)
    exact h_xpass hGr htb hlocks hF bx4 e1 e2 e3 hr hS h1 h2 h3
  have mm4 : hle u4 out.2 := (show Mo u4 _ from mo_gC (mo_bnx (moX1_requireNumber u4 a0 p3) hle_rf (fun r5 u5 m5 => mo_gQ (fun x6_ => mo_gQ (fun x7_ => mo_aQ (fun x8_ => mo_aI (fun x9_ => mo_gC (mo_bnd (moX1_changed n u5 a0) m5 (fun r10 u10 m10 => mo_gC (mo_bnd (moX2_sets n u10 r10 p1 p2 p3) m10 (fun r11 u11 m11 => mo_ret m11))))))))))) _ hF
  obtain ⟨mc4, ms4, hmc4, hms4⟩ := up_of (moX1_requirePlaces n h3 a0 a1_ _ e4)
  replace hc := cst_call hc hmc4 hms4
  refine h_xretv rfl (vx_runV (As := [.ref a1_]) (rest := []) ⟨hx, hb, hml, hown, hts⟩ (mgX1_requirePlaces l hl0 D A h3 n a0 a1_ _ e4 mc4 ms4 hmc4 hms4) (cwV 1 hts (lw_V q1689 q1691 qs38 q101 q1692) rfl rfl rfl (by decide +kernel) ⟨Nat.le_of_ble_eq_true rfl, Nat.le_of_ble_eq_true rfl⟩) (h_preV hGr hr hS ec4 (by decide) (q := (RX1, TX1, 7)) rfl _) rfl rfl hl.1 rfl (lv_room (Nat.le_of_ble_eq_true rfl)) dX1_setCell_12 ⟨(bud hc mm4 hmc hms).1, (bud hc mm4 hmc hms).2⟩) hS (fun H locs hr hS => ?_)
  refine lv_aload_n hx hb dX1_setCell_15 rfl (lv_at hl 0 rfl) ?_
  refine lv_iload_n hx hb dX1_setCell_16 rfl (lv_at hl 3 rfl) ?_
  obtain ⟨fc5, ec5, hF⟩ := gC_s hF
  rcases bnx_s hF with ⟨r5, u5, e5, hF⟩ | ⟨q5, u5, e5, hF⟩
  rotate_left
  · obtain ⟨mc5, ms5, hmc5, hms5⟩ := up_of (moX1_requireNumber u4 a0 p3 _ e5)
    have hcx := cst_call hc hmc5 hms5
    have bx5 := bud_r hcx hF hmc hms
    refine h_xthrv rfl (vx_runV (As := [.int p3]) (rest := []) ⟨hx, hb, hml, hown, hts⟩ (mgX1_requireNumber l hl0 D A u4 a0 p3 _ e5 mc5 ms5 hmc5 hms5) (cwV 1 hts (lw_V q1725 q1727 qs39 q101 q1728) rfl rfl rfl (by decide +kernel) ⟨Nat.le_of_ble_eq_true rfl, Nat.le_of_ble_eq_true rfl⟩) (h_preV hGr hr hS ec5 (by decide) (q := (RX1, TX1, 7)) rfl _) rfl rfl hl.1 rfl (lv_room (Nat.le_of_ble_eq_true rfl)) dX1_setCell_17 ⟨bx5.1, bx5.2⟩) hS (fun E9 q9 u9 H locs ce9 e1 e2 e3 hr hS h1 h2 h3 => ?_)
    exact h_xpass hGr htb hlocks hF bx5 e1 e2 e3 hr hS h1 h2 h3
  have mm5 : hle u5 out.2 := (show Mo u5 _ from mo_gQ (fun x6_ => mo_gQ (fun x7_ => mo_aQ (fun x8_ => mo_aI (fun x9_ => mo_gC (mo_bnd (moX1_changed n u5 a0) hle_rf (fun r10 u10 m10 => mo_gC (mo_bnd (moX2_sets n u10 r10 p1 p2 p3) m10 (fun r11 u11 m11 => mo_ret m11))))))))) _ hF
  obtain ⟨mc5, ms5, hmc5, hms5⟩ := up_of (moX1_requireNumber u4 a0 p3 _ e5)
  replace hc := cst_call hc hmc5 hms5
  refine h_xretv rfl (vx_runV (As := [.int p3]) (rest := []) ⟨hx, hb, hml, hown, hts⟩ (mgX1_requireNumber l hl0 D A u4 a0 p3 _ e5 mc5 ms5 hmc5 hms5) (cwV 1 hts (lw_V q1725 q1727 qs39 q101 q1728) rfl rfl rfl (by decide +kernel) ⟨Nat.le_of_ble_eq_true rfl, Nat.le_of_ble_eq_true rfl⟩) (h_preV hGr hr hS ec5 (by decide) (q := (RX1, TX1, 7)) rfl _) rfl rfl hl.1 rfl (lv_room (Nat.le_of_ble_eq_true rfl)) dX1_setCell_17 ⟨(bud hc mm5 hmc hms).1, (bud hc mm5 hmc hms).2⟩) hS (fun H locs hr hS => ?_)
  refine lv_aload_n hx hb dX1_setCell_20 rfl (lv_at hl 0 rfl) ?_
  obtain ⟨fs6, x6_, e6, f6, hF⟩ := gQ_s hF
  refine h_get (C := RX1) (T := TX1) (N := 7) hx hb hts in_X1 hown hGr hr e6 (by decide) rfl 0 (by decide) (hts _ q633) (fun _ h9 => h9) f6 dX1_setCell_21 ?_
  obtain ⟨fs7, x7_, e7, f7, hF⟩ := gQ_s hF
  refine h_getN (C := RX2) (T := TX2) (N := 11) hx hb hts in_X2 hown hGr hr e7 (by decide) rfl 2 (by decide) (va_Nw.use rfl (hGr.nw q569 rfl)) (fun _ h9 => h9) f7 dX1_setCell_24 ?_
  refine lv_iload_n hx hb dX1_setCell_27 rfl (lv_at hl 1 rfl) ?_
  obtain ⟨n8, f8, x8_, e8, g8, ex8, hF⟩ := aQ_s hF
  refine h_aald hx hb hGr hr (by decide) e8 g8 dX1_setCell_28 (v := .ref x8_) (by rw [ex8]; rfl) ?_
  refine lv_iload_n hx hb dX1_setCell_29 rfl (lv_at hl 2 rfl) ?_
  obtain ⟨n9, f9, e9, g9, hF⟩ := aI_s hF
  obtain ⟨x9_, ex9⟩ : ∃ z, z = f9 (p2).toNatClampNeg := ⟨_, rfl⟩
  rw [← ex9] at hF
  refine h_iald hx hb hGr hr 0 rfl e9 g9 dX1_setCell_30 ?_
  rw [← ex9]
  refine lv_istore (lv' := [(4, .int x9_), (0, .ref a0), (1, .int p1), (2, .int p2), (3, .int p3)]) hx hb dX1_setCell_31 hl (by decide) rfl (fun ls hl => ?_)
  refine lv_aload_n hx hb dX1_setCell_33 rfl (lv_at hl 1 rfl) ?_
  obtain ⟨fc10, ec10, hF⟩ := gC_s hF
  obtain ⟨r10, u10, e10, hF⟩ := bnd_s hF
  have mm10 : hle u10 out.2 := (show Mo u10 _ from mo_gC (mo_bnd (moX2_sets n u10 r10 p1 p2 p3) hle_rf (fun r11 u11 m11 => mo_ret m11))) _ hF
  obtain ⟨mc10, ms10, hmc10, hms10⟩ := up_of (moX1_changed n u5 a0 _ e10)
  replace hc := cst_call hc hmc10 hms10
  refine h_callr (va_runV (As := []) (rest := []) ⟨hx, hb, hml, hown, hts⟩ (mgX1_changed l D A u5 n a0 _ e10 mc10 ms10 hmc10 hms10) (cwV 0 hts (lw_V q666 q668 qs2 q101 q669) rfl rfl rfl (by decide +kernel) ⟨Nat.le_of_ble_eq_true rfl, Nat.le_of_ble_eq_true rfl⟩) (h_preV hGr hr hS ec10 (by decide) (q := (RX1, TX1, 7)) rfl _) rfl rfl hl.1 rfl (lv_room (Nat.le_of_ble_eq_true rfl)) dX1_setCell_34 ⟨(bud hc mm10 hmc hms).1, (bud hc mm10 hmc hms).2⟩) hS (fun rr uu H locs hw hr hS => ?_)
  obtain rfl : u10 = uu := (congrArg Prod.snd hw).symm
  obtain rfl : r10 = rr := (congrArg Prod.fst hw).symm
  refine lv_iload_n hx hb dX1_setCell_37 rfl (lv_at hl 2 rfl) ?_
  refine lv_iload_n hx hb dX1_setCell_38 rfl (lv_at hl 3 rfl) ?_
  refine lv_iload_n hx hb dX1_setCell_39 rfl (lv_at hl 4 rfl) ?_
  obtain ⟨fc11, ec11, hF⟩ := gC_s hF
  obtain ⟨r11, u11, e11, hF⟩ := bnd_s hF
  have mm11 : hle u11 out.2 := (show Mo u11 _ from mo_ret hle_rf) _ hF
  obtain ⟨mc11, ms11, hmc11, hms11⟩ := up_of (moX2_sets n u10 r10 p1 p2 p3 _ e11)
  replace hc := cst_call hc hmc11 hms11
  refine h_callv (va_runV (As := [.int p1, .int p2, .int p3]) (rest := []) ⟨hx, hb, hml, hown, hts⟩ (mgX2_sets l D A u10 n r10 p1 p2 p3 _ e11 mc11 ms11 hmc11 hms11) (cwV 3 hts (lw_V q1734 q1611 q1612 q102 q1613) rfl rfl rfl (by decide +kernel) ⟨Nat.le_of_ble_eq_true rfl, Nat.le_of_ble_eq_true rfl⟩) (h_preV hGr hr hS ec11 (by decide) (q := (RX2, TX2, 11)) rfl _) rfl rfl hl.1 rfl (lv_room (Nat.le_of_ble_eq_true rfl)) dX1_setCell_40 ⟨(bud hc mm11 hmc hms).1, (bud hc mm11 hmc hms).2⟩) hS (fun uu H locs hw hr hS => ?_)
  obtain rfl : u11 = uu := (congrArg Prod.snd hw).symm
  refine lv_iload hx hb dX1_setCell_43 (lv_at hl 0 rfl) ?_
  have bz := bud_r hc hF hmc hms
  refine vx_ret ?_
  refine W.widen (k := mc) (n := ms) bz.1 bz.2 ?_
  exact W.iret (v := x9_) hx hb hret (fun t ht hWm => ⟨⟨x9_, u11, rfl, Option.some.inj hF, h_end hGr hr hS ht hWm⟩, hS.F ht⟩) hS.2.2 dX1_setCell_45

def GX1_solution (n : Nat) (h : Hp) (a0 : Nat) (p1 : Int32) : Option ((Int32 ⊕ Xq) × Hp) := nA h 0 (1 : Int32) (fun a1_ h1 => sI h1 a1_ 0 (0 : Int32) p1 (fun h2 => gC h2 a0 1 (bnx (GX1_requirePlaces n h2 a0 a1_) (fun r3 u3 => gQ u3 a0 1 0 (fun x4_ => gQ u3 x4_ 2 8 (fun x5_ => gC u3 x5_ 10 (bnd (GJ2_isEmpty u3 x5_) (fun r6 u6 => if r6 = 0 then gQ u6 a0 1 0 (fun x16_ => gQ u6 x16_ 2 8 (fun x17_ => gC u6 x17_ 10 (bnd (GJ2_get u6 x17_ (0 : Int32)) (fun r18 u18 => gC u18 r18 7 (gC u18 r18 7 (bnd (GX8_cause u18 r18) (fun r20 u20 => if r20 = 1 then bnx (GX1_requireState u20 (1 : Int32)) (fun r30 u30 => gQ u30 a0 1 0 (fun x31_ => gC u30 x31_ 2 (bnd (GX2_solution n u30 x31_) (fun r32 u32 => oN r32 (bnx (GX1_requireElement u32 (0 : Int32)) (fun r34 u34 => none)) (fun b33 => bnx (GX1_requireElement u32 (1 : Int32)) (fun r35 u35 => gQ u35 b33 4 0 (fun x36_ => aI u35 x36_ 0 p1 (fun x37_ => some (.inl x37_, u35))))))))) else bnx (GX1_requireState u20 (0 : Int32)) (fun r22 u22 => gQ u22 a0 1 0 (fun x23_ => gC u22 x23_ 2 (bnd (GX2_solution n u22 x23_) (fun r24 u24 => oN r24 (bnx (GX1_requireElement u24 (0 : Int32)) (fun r26 u26 => none)) (fun b25 => bnx (GX1_requireElement u24 (1 : Int32)) (fun r27 u27 => gQ u27 b25 4 0 (fun x28_ => aI u27 x28_ 0 p1 (fun x29_ => some (.inl x29_, u27)))))))))))))))) else bnx (GX1_requireState u6 (0 : Int32)) (fun r8 u8 => gQ u8 a0 1 0 (fun x9_ => gC u8 x9_ 2 (bnd (GX2_solution n u8 x9_) (fun r10 u10 => oN r10 (bnx (GX1_requireElement u10 (0 : Int32)) (fun r12 u12 => none)) (fun b11 => bnx (GX1_requireElement u10 (1 : Int32)) (fun r13 u13 => gQ u13 b11 4 0 (fun x14_ => aI u13 x14_ 0 p1 (fun x15_ => some (.inl x15_, u13)))))))))))))))))
theorem moX1_solution (n : Nat) (h : Hp) (a0 : Nat) (p1 : Int32) : Mo h (GX1_solution n h a0 p1) := by
  unfold GX1_solution
  exact mo_nA hle_rf (fun a1_ h1 m1 => mo_sI m1 (fun h2 m2 => mo_gC (mo_bnx (moX1_requirePlaces n h2 a0 a1_) m2 (fun r3 u3 m3 => mo_gQ (fun x4_ => mo_gQ (fun x5_ => mo_gC (mo_bnd (moJ2_isEmpty u3 x5_) m3 (fun r6 u6 m6 => mo_ite (mo_gQ (fun x16_ => mo_gQ (fun x17_ => mo_gC (mo_bnd (moJ2_get u6 x17_ (0 : Int32)) m6 (fun r18 u18 m18 => mo_gC (mo_gC (mo_bnd (moX8_cause u18 r18) m18 (fun r20 u20 m20 => mo_ite (mo_bnx (moX1_requireState u20 (1 : Int32)) m20 (fun r30 u30 m30 => mo_gQ (fun x31_ => mo_gC (mo_bnd (moX2_solution n u30 x31_) m30 (fun r32 u32 m32 => mo_oN (mo_bnx (moX1_requireElement u32 (0 : Int32)) m32 (fun r34 u34 m34 => mo_no)) (fun b33 => mo_bnx (moX1_requireElement u32 (1 : Int32)) m32 (fun r35 u35 m35 => mo_gQ (fun x36_ => mo_aI (fun x37_ => mo_ret m35))))))))) (mo_bnx (moX1_requireState u20 (0 : Int32)) m20 (fun r22 u22 m22 => mo_gQ (fun x23_ => mo_gC (mo_bnd (moX2_solution n u22 x23_) m22 (fun r24 u24 m24 => mo_oN (mo_bnx (moX1_requireElement u24 (0 : Int32)) m24 (fun r26 u26 m26 => mo_no)) (fun b25 => mo_bnx (moX1_requireElement u24 (1 : Int32)) m24 (fun r27 u27 m27 => mo_gQ (fun x28_ => mo_aI (fun x29_ => mo_ret m27))))))))))))))))) (mo_bnx (moX1_requireState u6 (0 : Int32)) m6 (fun r8 u8 m8 => mo_gQ (fun x9_ => mo_gC (mo_bnd (moX2_solution n u8 x9_) m8 (fun r10 u10 m10 => mo_oN (mo_bnx (moX1_requireElement u10 (0 : Int32)) m10 (fun r12 u12 m12 => mo_no)) (fun b11 => mo_bnx (moX1_requireElement u10 (1 : Int32)) m10 (fun r13 u13 m13 => mo_gQ (fun x14_ => mo_aI (fun x15_ => mo_ret m13)))))))))))))))))
set_option maxHeartbeats 4000000 in
set_option maxRecDepth 100000 in
theorem mgX1_solution (l : Launch) (hl0 : l.stackTraces = false) (D : HD) (A : Nat → Prop) (h : Hp) (n : Nat) (a0 : Nat) (p1 : Int32) (out : (Int32 ⊕ Xq) × Hp) (hF : GX1_solution n h a0 p1 = some out) (mc ms : Nat) (hmc : hCc out.2 = hCc h + mc) (hms : hSl out.2 = hSl h + ms) : vx_Met l yX1_solution (ws_ yX1_solution cX1_solution 3 (some .int)) ({ frames := 9, cells := mc, slots := ms, locals := 3125 }) (va_Pc [.ref a0, .int p1] (hW D A h)) (va_Qi (fun r u => ((.inl r : Int32 ⊕ Xq), u) = out) (hW D A) A) (xC D A out) mc ms A := by
  refine vx_ofW (cc := cX1_solution) (maxL := 3) (ret := (some .int)) (by decide +kernel) rfl ?_
  intro p e s m args below meth c s₁ B hml htb hv
  obtain ⟨rfl, hr, hGr⟩ := hv
  have hx := B.exec
  have hb := B.bytes
  have hret := B.returns
  have hts := atoms_spec (ws := (ws_ yX1_solution cX1_solution 3 (some .int))) B.pre
  have hts : ∀ w ∈ lw_all, w.before _ s = true := fun w h => hts w (List.mem_cons_of_mem _ h)
  have hown : s.vm.findClass RX1 = some m.cls := findClass_of_methodNamed B.named
  have hlocks := B.notSynchronized
  have hS : va_S A s.heap s.heap [] := va_S.rf
  have hc : cst h 0 0 h := cst_0
  have hl := lv_entry ([.ref a0, .int p1]) (n := 3) (Nat.le_of_ble_eq_true rfl)
  rw [lg_entry_eq]
  generalize (lg_sl ([.ref a0, .int p1]) ++ List.replicate (3 - (lg_sl ([.ref a0, .int p1])).length) Slot.unset).toArray = ls at hl ⊢
  have hl : lv_has ls 3 [(0, .ref a0), (1, .int p1)] := hl
  unfold GX1_solution at hF
  refine lv_aload_n hx hb dX1_solution_0 rfl (lv_at hl 0 rfl) ?_
  refine lv_iconst (v := 1) hx hb dX1_solution_1 (by decide) ?_
  obtain ⟨a1_, h1, ea1, eh1, g1, hF⟩ := nA_s hF
  have mm1 : hle h1 out.2 := (show Mo h1 _ from mo_sI hle_rf (fun h2 m2 => mo_gC (mo_bnx (moX1_requirePlaces n h2 a0 a1_) m2 (fun r3 u3 m3 => mo_gQ (fun x4_ => mo_gQ (fun x5_ => mo_gC (mo_bnd (moJ2_isEmpty u3 x5_) m3 (fun r6 u6 m6 => mo_ite (mo_gQ (fun x16_ => mo_gQ (fun x17_ => mo_gC (mo_bnd (moJ2_get u6 x17_ (0 : Int32)) m6 (fun r18 u18 m18 => mo_gC (mo_gC (mo_bnd (moX8_cause u18 r18) m18 (fun r20 u20 m20 => mo_ite (mo_bnx (moX1_requireState u20 (1 : Int32)) m20 (fun r30 u30 m30 => mo_gQ (fun x31_ => mo_gC (mo_bnd (moX2_solution n u30 x31_) m30 (fun r32 u32 m32 => mo_oN (mo_bnx (moX1_requireElement u32 (0 : Int32)) m32 (fun r34 u34 m34 => mo_no)) (fun b33 => mo_bnx (moX1_requireElement u32 (1 : Int32)) m32 (fun r35 u35 m35 => mo_gQ (fun x36_ => mo_aI (fun x37_ => mo_ret m35))))))))) (mo_bnx (moX1_requireState u20 (0 : Int32)) m20 (fun r22 u22 m22 => mo_gQ (fun x23_ => mo_gC (mo_bnd (moX2_solution n u22 x23_) m22 (fun r24 u24 m24 => mo_oN (mo_bnx (moX1_requireElement u24 (0 : Int32)) m24 (fun r26 u26 m26 => mo_no)) (fun b25 => mo_bnx (moX1_requireElement u24 (1 : Int32)) m24 (fun r27 u27 m27 => mo_gQ (fun x28_ => mo_aI (fun x29_ => mo_ret m27))))))))))))))))) (mo_bnx (moX1_requireState u6 (0 : Int32)) m6 (fun r8 u8 m8 => mo_gQ (fun x9_ => mo_gC (mo_bnd (moX2_solution n u8 x9_) m8 (fun r10 u10 m10 => mo_oN (mo_bnx (moX1_requireElement u10 (0 : Int32)) m10 (fun r12 u12 m12 => mo_no)) (fun b11 => mo_bnx (moX1_requireElement u10 (1 : Int32)) m10 (fun r13 u13 m13 => mo_gQ (fun x14_ => mo_aI (fun x15_ => mo_ret m13))))))))))))))))) _ hF
  replace hc := cst_new hc eh1
  refine h_newI hx hb (hts _ q177) hGr hr hS g1 (bud hc mm1 hmc hms).1 (bud hc mm1 hmc hms).2 dX1_solution_2 (fun H hr hS => ?_)
  rw [← eh1] at hr
  rw [← ea1]
  refine lv_dup hx hb dX1_solution_4 rfl ?_
  refine lv_iconst (v := 0) hx hb dX1_solution_5 (by decide) ?_
  refine lv_iload_n hx hb dX1_solution_6 rfl (lv_at hl 1 rfl) ?_
  obtain ⟨n2, f2, e2, lo2, g2, hF⟩ := sI_s hF
  obtain ⟨h2, eh2⟩ : ∃ z, z = hPut h1 a1_ (.inl (0, n2, .inl (upd f2 ((0 : Int32)).toNatClampNeg p1))) := ⟨_, rfl⟩
  rw [← eh2] at hF
  refine h_iast hx hb hGr hr hS 0 rfl e2 (x := p1) g2 lo2 dX1_solution_7 (fun H locs hr hS => ?_)
  rw [← eh2] at hr
  replace hc := cst_put hc eh2
  obtain ⟨fc3, ec3, hF⟩ := gC_s hF
  rcases bnx_s hF with ⟨r3, u3, e3, hF⟩ | ⟨q3, u3, e3, hF⟩
  rotate_left
  · obtain ⟨mc3, ms3, hmc3, hms3⟩ := up_of (moX1_requirePlaces n h2 a0 a1_ _ e3)
    have hcx := cst_call hc hmc3 hms3
    have bx3 := bud_r hcx hF hmc hms
    refine h_xthrv rfl (vx_runV (As := [.ref a1_]) (rest := []) ⟨hx, hb, hml, hown, hts⟩ (mgX1_requirePlaces l hl0 D A h2 n a0 a1_ _ e3 mc3 ms3 hmc3 hms3) (cwV 1 hts (lw_V q1689 q1691 qs38 q101 q1692) rfl rfl rfl (by decide +kernel) ⟨Nat.le_of_ble_eq_true rfl, Nat.le_of_ble_eq_true rfl⟩) (h_preV hGr hr hS ec3 (by decide) (q := (RX1, TX1, 7)) rfl _) rfl rfl hl.1 rfl (lv_room (Nat.le_of_ble_eq_true rfl)) dX1_solution_8 ⟨bx3.1, bx3.2⟩) hS (fun E9 q9 u9 H locs ce9 e1 e2 e3 hr hS h1 h2 h3 => ?_)
    exact h_xpass hGr htb hlocks hF bx3 e1 e2 e3 hr hS h1 h2 h3
  have mm3 : hle u3 out.2 := (show Mo u3 _ from mo_gQ (fun x4_ => mo_gQ (fun x5_ => mo_gC (mo_bnd (moJ2_isEmpty u3 x5_) hle_rf (fun r6 u6 m6 => mo_ite (mo_gQ (fun x16_ => mo_gQ (fun x17_ => mo_gC (mo_bnd (moJ2_get u6 x17_ (0 : Int32)) m6 (fun r18 u18 m18 => mo_gC (mo_gC (mo_bnd (moX8_cause u18 r18) m18 (fun r20 u20 m20 => mo_ite (mo_bnx (moX1_requireState u20 (1 : Int32)) m20 (fun r30 u30 m30 => mo_gQ (fun x31_ => mo_gC (mo_bnd (moX2_solution n u30 x31_) m30 (fun r32 u32 m32 => mo_oN (mo_bnx (moX1_requireElement u32 (0 : Int32)) m32 (fun r34 u34 m34 => mo_no)) (fun b33 => mo_bnx (moX1_requireElement u32 (1 : Int32)) m32 (fun r35 u35 m35 => mo_gQ (fun x36_ => mo_aI (fun x37_ => mo_ret m35))))))))) (mo_bnx (moX1_requireState u20 (0 : Int32)) m20 (fun r22 u22 m22 => mo_gQ (fun x23_ => mo_gC (mo_bnd (moX2_solution n u22 x23_) m22 (fun r24 u24 m24 => mo_oN (mo_bnx (moX1_requireElement u24 (0 : Int32)) m24 (fun r26 u26 m26 => mo_no)) (fun b25 => mo_bnx (moX1_requireElement u24 (1 : Int32)) m24 (fun r27 u27 m27 => mo_gQ (fun x28_ => mo_aI (fun x29_ => mo_ret m27))))))))))))))))) (mo_bnx (moX1_requireState u6 (0 : Int32)) m6 (fun r8 u8 m8 => mo_gQ (fun x9_ => mo_gC (mo_bnd (moX2_solution n u8 x9_) m8 (fun r10 u10 m10 => mo_oN (mo_bnx (moX1_requireElement u10 (0 : Int32)) m10 (fun r12 u12 m12 => mo_no)) (fun b11 => mo_bnx (moX1_requireElement u10 (1 : Int32)) m10 (fun r13 u13 m13 => mo_gQ (fun x14_ => mo_aI (fun x15_ => mo_ret m13)))))))))))))) _ hF
  obtain ⟨mc3, ms3, hmc3, hms3⟩ := up_of (moX1_requirePlaces n h2 a0 a1_ _ e3)
  replace hc := cst_call hc hmc3 hms3
  refine h_xretv rfl (vx_runV (As := [.ref a1_]) (rest := []) ⟨hx, hb, hml, hown, hts⟩ (mgX1_requirePlaces l hl0 D A h2 n a0 a1_ _ e3 mc3 ms3 hmc3 hms3) (cwV 1 hts (lw_V q1689 q1691 qs38 q101 q1692) rfl rfl rfl (by decide +kernel) ⟨Nat.le_of_ble_eq_true rfl, Nat.le_of_ble_eq_true rfl⟩) (h_preV hGr hr hS ec3 (by decide) (q := (RX1, TX1, 7)) rfl _) rfl rfl hl.1 rfl (lv_room (Nat.le_of_ble_eq_true rfl)) dX1_solution_8 ⟨(bud hc mm3 hmc hms).1, (bud hc mm3 hmc hms).2⟩) hS (fun H locs hr hS => ?_)
  refine lv_aload_n hx hb dX1_solution_11 rfl (lv_at hl 0 rfl) ?_
  obtain ⟨fs4, x4_, e4, f4, hF⟩ := gQ_s hF
  refine h_get (C := RX1) (T := TX1) (N := 7) hx hb hts in_X1 hown hGr hr e4 (by decide) rfl 0 (by decide) (hts _ q633) (fun _ h9 => h9) f4 dX1_solution_12 ?_
  obtain ⟨fs5, x5_, e5, f5, hF⟩ := gQ_s hF
  refine h_getN (C := RX2) (T := TX2) (N := 11) hx hb hts in_X2 hown hGr hr e5 (by decide) rfl 8 (by decide) (va_Nw.use rfl (hGr.nw q585 rfl)) (fun _ h9 => h9) f5 dX1_solution_15 ?_
  obtain ⟨fc6, ec6, hF⟩ := gC_s hF
  obtain ⟨r6, u6, e6, hF⟩ := bnd_s hF
  have mm6 : hle u6 out.2 := (show Mo u6 _ from mo_ite (mo_gQ (fun x16_ => mo_gQ (fun x17_ => mo_gC (mo_bnd (moJ2_get u6 x17_ (0 : Int32)) hle_rf (fun r18 u18 m18 => mo_gC (mo_gC (mo_bnd (moX8_cause u18 r18) m18 (fun r20 u20 m20 => mo_ite (mo_bnx (moX1_requireState u20 (1 : Int32)) m20 (fun r30 u30 m30 => mo_gQ (fun x31_ => mo_gC (mo_bnd (moX2_solution n u30 x31_) m30 (fun r32 u32 m32 => mo_oN (mo_bnx (moX1_requireElement u32 (0 : Int32)) m32 (fun r34 u34 m34 => mo_no)) (fun b33 => mo_bnx (moX1_requireElement u32 (1 : Int32)) m32 (fun r35 u35 m35 => mo_gQ (fun x36_ => mo_aI (fun x37_ => mo_ret m35))))))))) (mo_bnx (moX1_requireState u20 (0 : Int32)) m20 (fun r22 u22 m22 => mo_gQ (fun x23_ => mo_gC (mo_bnd (moX2_solution n u22 x23_) m22 (fun r24 u24 m24 => mo_oN (mo_bnx (moX1_requireElement u24 (0 : Int32)) m24 (fun r26 u26 m26 => mo_no)) (fun b25 => mo_bnx (moX1_requireElement u24 (1 : Int32)) m24 (fun r27 u27 m27 => mo_gQ (fun x28_ => mo_aI (fun x29_ => mo_ret m27))))))))))))))))) (mo_bnx (moX1_requireState u6 (0 : Int32)) hle_rf (fun r8 u8 m8 => mo_gQ (fun x9_ => mo_gC (mo_bnd (moX2_solution n u8 x9_) m8 (fun r10 u10 m10 => mo_oN (mo_bnx (moX1_requireElement u10 (0 : Int32)) m10 (fun r12 u12 m12 => mo_no)) (fun b11 => mo_bnx (moX1_requireElement u10 (1 : Int32)) m10 (fun r13 u13 m13 => mo_gQ (fun x14_ => mo_aI (fun x15_ => mo_ret m13)))))))))) _ hF
  obtain ⟨mc6, ms6, hmc6, hms6⟩ := up_of (moJ2_isEmpty u3 x5_ _ e6)
  replace hc := cst_call hc hmc6 hms6
  refine h_callFi (va_runF (hGr.K.1 10 _ rfl).2 (As := []) (rest := []) ⟨hx, hb, hml, hown, hts⟩ (mgJ2_isEmpty l D A u3 x5_ _ e6 mc6 ms6 hmc6 hms6) (va_cwF 0 hts (lw_app (lw_fi q1897 q860 q862 q106) (lw_meth q864)) rfl rfl rfl (fw_4 hGr) (by decide +kernel) ⟨Nat.le_of_ble_eq_true rfl, Nat.le_of_ble_eq_true rfl⟩) (h_preV hGr hr hS ec6 (by decide) (q := (RJ2, TJ2, 3)) rfl _) rfl rfl hl.1 rfl (lv_room (Nat.le_of_ble_eq_true rfl)) dX1_solution_18 ⟨(bud hc mm6 hmc hms).1, (bud hc mm6 hmc hms).2⟩) hS (fun rr uu H locs hw hr hS => ?_)
  obtain rfl : u6 = uu := (congrArg Prod.snd hw).symm
  obtain rfl : r6 = rr := (congrArg Prod.fst hw).symm
  refine lv_if_ne (tgt := 53) hx hb dX1_solution_23 (by decide) (fun c7 => ?_) (fun c7 => ?_)
  · replace hF := it_f c7 hF
    refine lv_iconst (v := 0) hx hb dX1_solution_53 (by decide) ?_
    rcases bnx_s hF with ⟨r8, u8, e8, hF⟩ | ⟨q8, u8, e8, hF⟩
    rotate_left
    · obtain ⟨mc8, ms8, hmc8, hms8⟩ := up_of (moX1_requireState u6 (0 : Int32) _ e8)
      have hcx := cst_call hc hmc8 hms8
      have bx8 := bud_r hcx hF hmc hms
      refine h_xthrv rfl (vx_runS (As := [.int 0]) (rest := []) ⟨hx, hb, hml, hown, hts⟩ (mgX1_requireState l hl0 D A u6 (0 : Int32) _ e8 mc8 ms8 hmc8 hms8) (va_cwS 1 hts (lw_S q1326 q1327 q101 q1328) rfl rfl rfl (by decide +kernel) ⟨Nat.le_of_ble_eq_true rfl, Nat.le_of_ble_eq_true rfl⟩) (h_preS hGr hr hS _) rfl rfl hl.1 rfl (lv_room (Nat.le_of_ble_eq_true rfl)) dX1_solution_54 ⟨bx8.1, bx8.2⟩) hS (fun E9 q9 u9 H locs ce9 e1 e2 e3 hr hS h1 h2 h3 => ?_)
      exact h_xpass hGr htb hlocks hF bx8 e1 e2 e3 hr hS h1 h2 h3
    have mm8 : hle u8 out.2 := (show Mo u8 _ from mo_gQ (fun x9_ => mo_gC (mo_bnd (moX2_solution n u8 x9_) hle_rf (fun r10 u10 m10 => mo_oN (mo_bnx (moX1_requireElement u10 (0 : Int32)) m10 (fun r12 u12 m12 => mo_no)) (fun b11 => mo_bnx (moX1_requireElement u10 (1 : Int32)) m10 (fun r13 u13 m13 => mo_gQ (fun x14_ => mo_aI (fun x15_ => mo_ret m13)))))))) _ hF
    obtain ⟨mc8, ms8, hmc8, hms8⟩ := up_of (moX1_requireState u6 (0 : Int32) _ e8)
    replace hc := cst_call hc hmc8 hms8
    refine h_xretv rfl (vx_runS (As := [.int 0]) (rest := []) ⟨hx, hb, hml, hown, hts⟩ (mgX1_requireState l hl0 D A u6 (0 : Int32) _ e8 mc8 ms8 hmc8 hms8) (va_cwS 1 hts (lw_S q1326 q1327 q101 q1328) rfl rfl rfl (by decide +kernel) ⟨Nat.le_of_ble_eq_true rfl, Nat.le_of_ble_eq_true rfl⟩) (h_preS hGr hr hS _) rfl rfl hl.1 rfl (lv_room (Nat.le_of_ble_eq_true rfl)) dX1_solution_54 ⟨(bud hc mm8 hmc hms).1, (bud hc mm8 hmc hms).2⟩) hS (fun H locs hr hS => ?_)
    refine lv_aload_n hx hb dX1_solution_57 rfl (lv_at hl 0 rfl) ?_
    obtain ⟨fs9, x9_, e9, f9, hF⟩ := gQ_s hF
    refine h_get (C := RX1) (T := TX1) (N := 7) hx hb hts in_X1 hown hGr hr e9 (by decide) rfl 0 (by decide) (hts _ q633) (fun _ h9 => h9) f9 dX1_solution_58 ?_
    obtain ⟨fc10, ec10, hF⟩ := gC_s hF
    obtain ⟨r10, u10, e10, hF⟩ := bnd_s hF
    have mm10 : hle u10 out.2 := (show Mo u10 _ from mo_oN (mo_bnx (moX1_requireElement u10 (0 : Int32)) hle_rf (fun r12 u12 m12 => mo_no)) (fun b11 => mo_bnx (moX1_requireElement u10 (1 : Int32)) hle_rf (fun r13 u13 m13 => mo_gQ (fun x14_ => mo_aI (fun x15_ => mo_ret m13))))) _ hF
    obtain ⟨mc10, ms10, hmc10, hms10⟩ := up_of (moX2_solution n u8 x9_ _ e10)
    replace hc := cst_call hc hmc10 hms10
    refine h_callq (va_runV (As := []) (rest := []) ⟨hx, hb, hml, hown, hts⟩ (mgX2_solution l D A u8 n x9_ _ e10 mc10 ms10 hmc10 hms10) (cwV 0 hts (lw_V q1898 q1899 q1900 q102 q1901) rfl rfl rfl (by decide +kernel) ⟨Nat.le_of_ble_eq_true rfl, Nat.le_of_ble_eq_true rfl⟩) (h_preV hGr hr hS ec10 (by decide) (q := (RX2, TX2, 11)) rfl _) rfl rfl hl.1 rfl (lv_room (Nat.le_of_ble_eq_true rfl)) dX1_solution_61 ⟨(bud hc mm10 hmc hms).1, (bud hc mm10 hmc hms).2⟩) hS (fun rr uu H locs hw hr hS => ?_)
    obtain rfl : u10 = uu := (congrArg Prod.snd hw).symm
    obtain rfl : r10 = rr := (congrArg Prod.fst hw).symm
    rcases oN_s hF with ⟨rfl, hFn⟩ | ⟨b11, rfl, hFn⟩
    · replace hF := hFn
      refine lv_astore_nN (lv' := [(2, .null), (0, .ref a0), (1, .int p1)]) hx hb dX1_solution_64 rfl hl (by decide) rfl (fun ls hl => ?_)
      refine lv_aload_nN hx hb dX1_solution_65 rfl (lv_at hl 0 rfl) ?_
      refine lv_ifnullN (tgt := 73) hx hb dX1_solution_66 (by decide) ?_
      refine lv_iconst (v := 0) hx hb dX1_solution_73 (by decide) ?_
      rcases bnx_s hF with ⟨r12, u12, e12, hF⟩ | ⟨q12, u12, e12, hF⟩
      rotate_left
      · obtain ⟨mc12, ms12, hmc12, hms12⟩ := up_of (moX1_requireElement u10 (0 : Int32) _ e12)
        have hcx := cst_call hc hmc12 hms12
        have bx12 := bud_r hcx hF hmc hms
        refine h_xthrv rfl (vx_runS (As := [.int 0]) (rest := []) ⟨hx, hb, hml, hown, hts⟩ (mgX1_requireElement l hl0 D A u10 (0 : Int32) _ e12 mc12 ms12 hmc12 hms12) (va_cwS 1 hts (lw_S q1906 q1907 q101 q1908) rfl rfl rfl (by decide +kernel) ⟨Nat.le_of_ble_eq_true rfl, Nat.le_of_ble_eq_true rfl⟩) (h_preS hGr hr hS _) rfl rfl hl.1 rfl (lv_room (Nat.le_of_ble_eq_true rfl)) dX1_solution_74 ⟨bx12.1, bx12.2⟩) hS (fun E9 q9 u9 H locs ce9 e1 e2 e3 hr hS h1 h2 h3 => ?_)
        exact h_xpass hGr htb hlocks hF bx12 e1 e2 e3 hr hS h1 h2 h3
      have mm12 : hle u12 out.2 := (show Mo u12 _ from mo_no) _ hF
      obtain ⟨mc12, ms12, hmc12, hms12⟩ := up_of (moX1_requireElement u10 (0 : Int32) _ e12)
      replace hc := cst_call hc hmc12 hms12
      refine h_xretv rfl (vx_runS (As := [.int 0]) (rest := []) ⟨hx, hb, hml, hown, hts⟩ (mgX1_requireElement l hl0 D A u10 (0 : Int32) _ e12 mc12 ms12 hmc12 hms12) (va_cwS 1 hts (lw_S q1906 q1907 q101 q1908) rfl rfl rfl (by decide +kernel) ⟨Nat.le_of_ble_eq_true rfl, Nat.le_of_ble_eq_true rfl⟩) (h_preS hGr hr hS _) rfl rfl hl.1 rfl (lv_room (Nat.le_of_ble_eq_true rfl)) dX1_solution_74 ⟨(bud hc mm12 hmc hms).1, (bud hc mm12 hmc hms).2⟩) hS (fun H locs hr hS => ?_)
      refine lv_aload_nN hx hb dX1_solution_77 rfl (lv_at hl 0 rfl) ?_
      exact nomatch hF
    · replace hF := hFn
      refine lv_astore_n (lv' := [(2, .ref b11), (0, .ref a0), (1, .int p1)]) hx hb dX1_solution_64 rfl hl (by decide) rfl (fun ls hl => ?_)
      refine lv_aload_n hx hb dX1_solution_65 rfl (lv_at hl 0 rfl) ?_
      refine lv_ifnull hx hb dX1_solution_66 ?_
      refine lv_iconst (v := 1) hx hb dX1_solution_69 (by decide) ?_
      refine lv_goto (tgt := 74) hx hb dX1_solution_70 (by decide) ?_
      rcases bnx_s hF with ⟨r13, u13, e13, hF⟩ | ⟨q13, u13, e13, hF⟩
      rotate_left
      · obtain ⟨mc13, ms13, hmc13, hms13⟩ := up_of (moX1_requireElement u10 (1 : Int32) _ e13)
        have hcx := cst_call hc hmc13 hms13
        have bx13 := bud_r hcx hF hmc hms
        refine h_xthrv rfl (vx_runS (As := [.int 1]) (rest := []) ⟨hx, hb, hml, hown, hts⟩ (mgX1_requireElement l hl0 D A u10 (1 : Int32) _ e13 mc13 ms13 hmc13 hms13) (va_cwS 1 hts (lw_S q1906 q1907 q101 q1908) rfl rfl rfl (by decide +kernel) ⟨Nat.le_of_ble_eq_true rfl, Nat.le_of_ble_eq_true rfl⟩) (h_preS hGr hr hS _) rfl rfl hl.1 rfl (lv_room (Nat.le_of_ble_eq_true rfl)) dX1_solution_74 ⟨bx13.1, bx13.2⟩) hS (fun E9 q9 u9 H locs ce9 e1 e2 e3 hr hS h1 h2 h3 => ?_)
        exact h_xpass hGr htb hlocks hF bx13 e1 e2 e3 hr hS h1 h2 h3
      have mm13 : hle u13 out.2 := (show Mo u13 _ from mo_gQ (fun x14_ => mo_aI (fun x15_ => mo_ret hle_rf))) _ hF
      obtain ⟨mc13, ms13, hmc13, hms13⟩ := up_of (moX1_requireElement u10 (1 : Int32) _ e13)
      replace hc := cst_call hc hmc13 hms13
      refine h_xretv rfl (vx_runS (As := [.int 1]) (rest := []) ⟨hx, hb, hml, hown, hts⟩ (mgX1_requireElement l hl0 D A u10 (1 : Int32) _ e13 mc13 ms13 hmc13 hms13) (va_cwS 1 hts (lw_S q1906 q1907 q101 q1908) rfl rfl rfl (by decide +kernel) ⟨Nat.le_of_ble_eq_true rfl, Nat.le_of_ble_eq_true rfl⟩) (h_preS hGr hr hS _) rfl rfl hl.1 rfl (lv_room (Nat.le_of_ble_eq_true rfl)) dX1_solution_74 ⟨(bud hc mm13 hmc hms).1, (bud hc mm13 hmc hms).2⟩) hS (fun H locs hr hS => ?_)
      refine lv_aload_n hx hb dX1_solution_77 rfl (lv_at hl 0 rfl) ?_
      obtain ⟨fs14, x14_, e14, f14, hF⟩ := gQ_s hF
      refine h_getN (C := RX4) (T := TX4) (N := 1) hx hb hts in_X4 hown hGr hr e14 (by decide) rfl 0 (by decide) (va_Nw.use rfl (hGr.nw q557 rfl)) (fun _ h9 => h9) f14 dX1_solution_78 ?_
      refine lv_iload_n hx hb dX1_solution_81 rfl (lv_at hl 2 rfl) ?_
      obtain ⟨n15, f15, e15, g15, hF⟩ := aI_s hF
      obtain ⟨x15_, ex15⟩ : ∃ z, z = f15 (p1).toNatClampNeg := ⟨_, rfl⟩
      rw [← ex15] at hF
      refine h_iald hx hb hGr hr 0 rfl e15 g15 dX1_solution_82 ?_
      rw [← ex15]
      have bz := bud_r hc hF hmc hms
      refine vx_ret ?_
      refine W.widen (k := mc) (n := ms) bz.1 bz.2 ?_
      exact W.iret (v := x15_) hx hb hret (fun t ht hWm => ⟨⟨x15_, u13, rfl, Option.some.inj hF, h_end hGr hr hS ht hWm⟩, hS.F ht⟩) hS.2.2 dX1_solution_83
  · replace hF := it_t c7 hF
    refine lv_aload_n hx hb dX1_solution_26 rfl (lv_at hl 0 rfl) ?_
    obtain ⟨fs16, x16_, e16, f16, hF⟩ := gQ_s hF
    refine h_get (C := RX1) (T := TX1) (N := 7) hx hb hts in_X1 hown hGr hr e16 (by decide) rfl 0 (by decide) (hts _ q633) (fun _ h9 => h9) f16 dX1_solution_27 ?_
    obtain ⟨fs17, x17_, e17, f17, hF⟩ := gQ_s hF
    refine h_getN (C := RX2) (T := TX2) (N := 11) hx hb hts in_X2 hown hGr hr e17 (by decide) rfl 8 (by decide) (va_Nw.use rfl (hGr.nw q585 rfl)) (fun _ h9 => h9) f17 dX1_solution_30 ?_
    refine lv_iconst (v := 0) hx hb dX1_solution_33 (by decide) ?_
    obtain ⟨fc18, ec18, hF⟩ := gC_s hF
    obtain ⟨r18, u18, e18, hF⟩ := bnd_s hF
    have mm18 : hle u18 out.2 := (show Mo u18 _ from mo_gC (mo_gC (mo_bnd (moX8_cause u18 r18) hle_rf (fun r20 u20 m20 => mo_ite (mo_bnx (moX1_requireState u20 (1 : Int32)) m20 (fun r30 u30 m30 => mo_gQ (fun x31_ => mo_gC (mo_bnd (moX2_solution n u30 x31_) m30 (fun r32 u32 m32 => mo_oN (mo_bnx (moX1_requireElement u32 (0 : Int32)) m32 (fun r34 u34 m34 => mo_no)) (fun b33 => mo_bnx (moX1_requireElement u32 (1 : Int32)) m32 (fun r35 u35 m35 => mo_gQ (fun x36_ => mo_aI (fun x37_ => mo_ret m35))))))))) (mo_bnx (moX1_requireState u20 (0 : Int32)) m20 (fun r22 u22 m22 => mo_gQ (fun x23_ => mo_gC (mo_bnd (moX2_solution n u22 x23_) m22 (fun r24 u24 m24 => mo_oN (mo_bnx (moX1_requireElement u24 (0 : Int32)) m24 (fun r26 u26 m26 => mo_no)) (fun b25 => mo_bnx (moX1_requireElement u24 (1 : Int32)) m24 (fun r27 u27 m27 => mo_gQ (fun x28_ => mo_aI (fun x29_ => mo_ret m27))))))))))))) _ hF
    obtain ⟨mc18, ms18, hmc18, hms18⟩ := up_of (moJ2_get u6 x17_ (0 : Int32) _ e18)
    replace hc := cst_call hc hmc18 hms18
    refine h_callFr (va_runF (hGr.K.1 10 _ rfl).2 (As := [.int 0]) (rest := []) ⟨hx, hb, hml, hown, hts⟩ (mgJ2_get l D A u6 x17_ (0 : Int32) _ e18 mc18 ms18 hmc18 hms18) (va_cwF 1 hts (lw_app (lw_fi q1276 q934 q936 q106) (lw_meth q938)) rfl rfl rfl (fw_7 hGr) (by decide +kernel) ⟨Nat.le_of_ble_eq_true rfl, Nat.le_of_ble_eq_true rfl⟩) (h_preV hGr hr hS ec18 (by decide) (q := (RJ2, TJ2, 3)) rfl _) rfl rfl hl.1 rfl (lv_room (Nat.le_of_ble_eq_true rfl)) dX1_solution_34 ⟨(bud hc mm18 hmc hms).1, (bud hc mm18 hmc hms).2⟩) hS (fun rr uu H locs hw hr hS => ?_)
    obtain rfl : u18 = uu := (congrArg Prod.snd hw).symm
    obtain rfl : r18 = rr := (congrArg Prod.fst hw).symm
    obtain ⟨fs19, e19, hF⟩ := gC_s hF
    refine h_cast hx hb hown (hts _ q1277) hGr hr e19 (by decide) (T := TX8) (N := 3) rfl dX1_solution_39 ?_
    obtain ⟨fc20, ec20, hF⟩ := gC_s hF
    obtain ⟨r20, u20, e20, hF⟩ := bnd_s hF
    have mm20 : hle u20 out.2 := (show Mo u20 _ from mo_ite (mo_bnx (moX1_requireState u20 (1 : Int32)) hle_rf (fun r30 u30 m30 => mo_gQ (fun x31_ => mo_gC (mo_bnd (moX2_solution n u30 x31_) m30 (fun r32 u32 m32 => mo_oN (mo_bnx (moX1_requireElement u32 (0 : Int32)) m32 (fun r34 u34 m34 => mo_no)) (fun b33 => mo_bnx (moX1_requireElement u32 (1 : Int32)) m32 (fun r35 u35 m35 => mo_gQ (fun x36_ => mo_aI (fun x37_ => mo_ret m35))))))))) (mo_bnx (moX1_requireState u20 (0 : Int32)) hle_rf (fun r22 u22 m22 => mo_gQ (fun x23_ => mo_gC (mo_bnd (moX2_solution n u22 x23_) m22 (fun r24 u24 m24 => mo_oN (mo_bnx (moX1_requireElement u24 (0 : Int32)) m24 (fun r26 u26 m26 => mo_no)) (fun b25 => mo_bnx (moX1_requireElement u24 (1 : Int32)) m24 (fun r27 u27 m27 => mo_gQ (fun x28_ => mo_aI (fun x29_ => mo_ret m27)))))))))) _ hF
    obtain ⟨mc20, ms20, hmc20, hms20⟩ := up_of (moX8_cause u18 r18 _ e20)
    replace hc := cst_call hc hmc20 hms20
    refine h_calli (va_runV (As := []) (rest := []) ⟨hx, hb, hml, hown, hts⟩ (mgX8_cause l D A u18 r18 _ e20 mc20 ms20 hmc20 hms20) (cwV 0 hts (lw_V q1301 q997 q998 q139 q999) rfl rfl rfl (by decide +kernel) ⟨Nat.le_of_ble_eq_true rfl, Nat.le_of_ble_eq_true rfl⟩) (h_preV hGr hr hS ec20 (by decide) (q := (RX8, TX8, 3)) rfl _) rfl rfl hl.1 rfl (lv_room (Nat.le_of_ble_eq_true rfl)) dX1_solution_42 ⟨(bud hc mm20 hmc hms).1, (bud hc mm20 hmc hms).2⟩) hS (fun rr uu H locs hw hr hS => ?_)
    obtain rfl : u20 = uu := (congrArg Prod.snd hw).symm
    obtain rfl : r20 = rr := (congrArg Prod.fst hw).symm
    refine lv_iconst (v := 1) hx hb dX1_solution_45 (by decide) ?_
    refine lv_icmp_ne (tgt := 53) hx hb dX1_solution_46 (by decide) (fun c21 => ?_) (fun c21 => ?_)
    · replace hF := it_f c21 hF
      refine lv_iconst (v := 0) hx hb dX1_solution_53 (by decide) ?_
      rcases bnx_s hF with ⟨r22, u22, e22, hF⟩ | ⟨q22, u22, e22, hF⟩
      rotate_left
      · obtain ⟨mc22, ms22, hmc22, hms22⟩ := up_of (moX1_requireState u20 (0 : Int32) _ e22)
        have hcx := cst_call hc hmc22 hms22
        have bx22 := bud_r hcx hF hmc hms
        refine h_xthrv rfl (vx_runS (As := [.int 0]) (rest := []) ⟨hx, hb, hml, hown, hts⟩ (mgX1_requireState l hl0 D A u20 (0 : Int32) _ e22 mc22 ms22 hmc22 hms22) (va_cwS 1 hts (lw_S q1326 q1327 q101 q1328) rfl rfl rfl (by decide +kernel) ⟨Nat.le_of_ble_eq_true rfl, Nat.le_of_ble_eq_true rfl⟩) (h_preS hGr hr hS _) rfl rfl hl.1 rfl (lv_room (Nat.le_of_ble_eq_true rfl)) dX1_solution_54 ⟨bx22.1, bx22.2⟩) hS (fun E9 q9 u9 H locs ce9 e1 e2 e3 hr hS h1 h2 h3 => ?_)
        exact h_xpass hGr htb hlocks hF bx22 e1 e2 e3 hr hS h1 h2 h3
      have mm22 : hle u22 out.2 := (show Mo u22 _ from mo_gQ (fun x23_ => mo_gC (mo_bnd (moX2_solution n u22 x23_) hle_rf (fun r24 u24 m24 => mo_oN (mo_bnx (moX1_requireElement u24 (0 : Int32)) m24 (fun r26 u26 m26 => mo_no)) (fun b25 => mo_bnx (moX1_requireElement u24 (1 : Int32)) m24 (fun r27 u27 m27 => mo_gQ (fun x28_ => mo_aI (fun x29_ => mo_ret m27)))))))) _ hF
      obtain ⟨mc22, ms22, hmc22, hms22⟩ := up_of (moX1_requireState u20 (0 : Int32) _ e22)
      replace hc := cst_call hc hmc22 hms22
      refine h_xretv rfl (vx_runS (As := [.int 0]) (rest := []) ⟨hx, hb, hml, hown, hts⟩ (mgX1_requireState l hl0 D A u20 (0 : Int32) _ e22 mc22 ms22 hmc22 hms22) (va_cwS 1 hts (lw_S q1326 q1327 q101 q1328) rfl rfl rfl (by decide +kernel) ⟨Nat.le_of_ble_eq_true rfl, Nat.le_of_ble_eq_true rfl⟩) (h_preS hGr hr hS _) rfl rfl hl.1 rfl (lv_room (Nat.le_of_ble_eq_true rfl)) dX1_solution_54 ⟨(bud hc mm22 hmc hms).1, (bud hc mm22 hmc hms).2⟩) hS (fun H locs hr hS => ?_)
      refine lv_aload_n hx hb dX1_solution_57 rfl (lv_at hl 0 rfl) ?_
      obtain ⟨fs23, x23_, e23, f23, hF⟩ := gQ_s hF
      refine h_get (C := RX1) (T := TX1) (N := 7) hx hb hts in_X1 hown hGr hr e23 (by decide) rfl 0 (by decide) (hts _ q633) (fun _ h9 => h9) f23 dX1_solution_58 ?_
      obtain ⟨fc24, ec24, hF⟩ := gC_s hF
      obtain ⟨r24, u24, e24, hF⟩ := bnd_s hF
      have mm24 : hle u24 out.2 := (show Mo u24 _ from mo_oN (mo_bnx (moX1_requireElement u24 (0 : Int32)) hle_rf (fun r26 u26 m26 => mo_no)) (fun b25 => mo_bnx (moX1_requireElement u24 (1 : Int32)) hle_rf (fun r27 u27 m27 => mo_gQ (fun x28_ => mo_aI (fun x29_ => mo_ret m27))))) _ hF
      obtain ⟨mc24, ms24, hmc24, hms24⟩ := up_of (moX2_solution n u22 x23_ _ e24)
      replace hc := cst_call hc hmc24 hms24
      refine h_callq (va_runV (As := []) (rest := []) ⟨hx, hb, hml, hown, hts⟩ (mgX2_solution l D A u22 n x23_ _ e24 mc24 ms24 hmc24 hms24) (cwV 0 hts (lw_V q1898 q1899 q1900 q102 q1901) rfl rfl rfl (by decide +kernel) ⟨Nat.le_of_ble_eq_true rfl, Nat.le_of_ble_eq_true rfl⟩) (h_preV hGr hr hS ec24 (by decide) (q := (RX2, TX2, 11)) rfl _) rfl rfl hl.1 rfl (lv_room (Nat.le_of_ble_eq_true rfl)) dX1_solution_61 ⟨(bud hc mm24 hmc hms).1, (bud hc mm24 hmc hms).2⟩) hS (fun rr uu H locs hw hr hS => ?_)
      obtain rfl : u24 = uu := (congrArg Prod.snd hw).symm
      obtain rfl : r24 = rr := (congrArg Prod.fst hw).symm
      rcases oN_s hF with ⟨rfl, hFn⟩ | ⟨b25, rfl, hFn⟩
      · replace hF := hFn
        refine lv_astore_nN (lv' := [(2, .null), (0, .ref a0), (1, .int p1)]) hx hb dX1_solution_64 rfl hl (by decide) rfl (fun ls hl => ?_)
        refine lv_aload_nN hx hb dX1_solution_65 rfl (lv_at hl 0 rfl) ?_
        refine lv_ifnullN (tgt := 73) hx hb dX1_solution_66 (by decide) ?_
        refine lv_iconst (v := 0) hx hb dX1_solution_73 (by decide) ?_
        rcases bnx_s hF with ⟨r26, u26, e26, hF⟩ | ⟨q26, u26, e26, hF⟩
        rotate_left
        · obtain ⟨mc26, ms26, hmc26, hms26⟩ := up_of (moX1_requireElement u24 (0 : Int32) _ e26)
          have hcx := cst_call hc hmc26 hms26
          have bx26 := bud_r hcx hF hmc hms
          refine h_xthrv rfl (vx_runS (As := [.int 0]) (rest := []) ⟨hx, hb, hml, hown, hts⟩ (mgX1_requireElement l hl0 D A u24 (0 : Int32) _ e26 mc26 ms26 hmc26 hms26) (va_cwS 1 hts (lw_S q1906 q1907 q101 q1908) rfl rfl rfl (by decide +kernel) ⟨Nat.le_of_ble_eq_true rfl, Nat.le_of_ble_eq_true rfl⟩) (h_preS hGr hr hS _) rfl rfl hl.1 rfl (lv_room (Nat.le_of_ble_eq_true rfl)) dX1_solution_74 ⟨bx26.1, bx26.2⟩) hS (fun E9 q9 u9 H locs ce9 e1 e2 e3 hr hS h1 h2 h3 => ?_)
          exact h_xpass hGr htb hlocks hF bx26 e1 e2 e3 hr hS h1 h2 h3
        have mm26 : hle u26 out.2 := (show Mo u26 _ from mo_no) _ hF
        obtain ⟨mc26, ms26, hmc26, hms26⟩ := up_of (moX1_requireElement u24 (0 : Int32) _ e26)
        replace hc := cst_call hc hmc26 hms26
        refine h_xretv rfl (vx_runS (As := [.int 0]) (rest := []) ⟨hx, hb, hml, hown, hts⟩ (mgX1_requireElement l hl0 D A u24 (0 : Int32) _ e26 mc26 ms26 hmc26 hms26) (va_cwS 1 hts (lw_S q1906 q1907 q101 q1908) rfl rfl rfl (by decide +kernel) ⟨Nat.le_of_ble_eq_true rfl, Nat.le_of_ble_eq_true rfl⟩) (h_preS hGr hr hS _) rfl rfl hl.1 rfl (lv_room (Nat.le_of_ble_eq_true rfl)) dX1_solution_74 ⟨(bud hc mm26 hmc hms).1, (bud hc mm26 hmc hms).2⟩) hS (fun H locs hr hS => ?_)
        refine lv_aload_nN hx hb dX1_solution_77 rfl (lv_at hl 0 rfl) ?_
        exact nomatch hF
      · replace hF := hFn
        refine lv_astore_n (lv' := [(2, .ref b25), (0, .ref a0), (1, .int p1)]) hx hb dX1_solution_64 rfl hl (by decide) rfl (fun ls hl => ?_)
        refine lv_aload_n hx hb dX1_solution_65 rfl (lv_at hl 0 rfl) ?_
        refine lv_ifnull hx hb dX1_solution_66 ?_
        refine lv_iconst (v := 1) hx hb dX1_solution_69 (by decide) ?_
        refine lv_goto (tgt := 74) hx hb dX1_solution_70 (by decide) ?_
        rcases bnx_s hF with ⟨r27, u27, e27, hF⟩ | ⟨q27, u27, e27, hF⟩
        rotate_left
        · obtain ⟨mc27, ms27, hmc27, hms27⟩ := up_of (moX1_requireElement u24 (1 : Int32) _ e27)
          have hcx := cst_call hc hmc27 hms27
          have bx27 := bud_r hcx hF hmc hms
          refine h_xthrv rfl (vx_runS (As := [.int 1]) (rest := []) ⟨hx, hb, hml, hown, hts⟩ (mgX1_requireElement l hl0 D A u24 (1 : Int32) _ e27 mc27 ms27 hmc27 hms27) (va_cwS 1 hts (lw_S q1906 q1907 q101 q1908) rfl rfl rfl (by decide +kernel) ⟨Nat.le_of_ble_eq_true rfl, Nat.le_of_ble_eq_true rfl⟩) (h_preS hGr hr hS _) rfl rfl hl.1 rfl (lv_room (Nat.le_of_ble_eq_true rfl)) dX1_solution_74 ⟨bx27.1, bx27.2⟩) hS (fun E9 q9 u9 H locs ce9 e1 e2 e3 hr hS h1 h2 h3 => ?_)
          exact h_xpass hGr htb hlocks hF bx27 e1 e2 e3 hr hS h1 h2 h3
        have mm27 : hle u27 out.2 := (show Mo u27 _ from mo_gQ (fun x28_ => mo_aI (fun x29_ => mo_ret hle_rf))) _ hF
        obtain ⟨mc27, ms27, hmc27, hms27⟩ := up_of (moX1_requireElement u24 (1 : Int32) _ e27)
        replace hc := cst_call hc hmc27 hms27
        refine h_xretv rfl (vx_runS (As := [.int 1]) (rest := []) ⟨hx, hb, hml, hown, hts⟩ (mgX1_requireElement l hl0 D A u24 (1 : Int32) _ e27 mc27 ms27 hmc27 hms27) (va_cwS 1 hts (lw_S q1906 q1907 q101 q1908) rfl rfl rfl (by decide +kernel) ⟨Nat.le_of_ble_eq_true rfl, Nat.le_of_ble_eq_true rfl⟩) (h_preS hGr hr hS _) rfl rfl hl.1 rfl (lv_room (Nat.le_of_ble_eq_true rfl)) dX1_solution_74 ⟨(bud hc mm27 hmc hms).1, (bud hc mm27 hmc hms).2⟩) hS (fun H locs hr hS => ?_)
        refine lv_aload_n hx hb dX1_solution_77 rfl (lv_at hl 0 rfl) ?_
        obtain ⟨fs28, x28_, e28, f28, hF⟩ := gQ_s hF
        refine h_getN (C := RX4) (T := TX4) (N := 1) hx hb hts in_X4 hown hGr hr e28 (by decide) rfl 0 (by decide) (va_Nw.use rfl (hGr.nw q557 rfl)) (fun _ h9 => h9) f28 dX1_solution_78 ?_
        refine lv_iload_n hx hb dX1_solution_81 rfl (lv_at hl 2 rfl) ?_
        obtain ⟨n29, f29, e29, g29, hF⟩ := aI_s hF
        obtain ⟨x29_, ex29⟩ : ∃ z, z = f29 (p1).toNatClampNeg := ⟨_, rfl⟩
        rw [← ex29] at hF
        refine h_iald hx hb hGr hr 0 rfl e29 g29 dX1_solution_82 ?_
        rw [← ex29]
        have bz := bud_r hc hF hmc hms
        refine vx_ret ?_
        refine W.widen (k := mc) (n := ms) bz.1 bz.2 ?_
        exact W.iret (v := x29_) hx hb hret (fun t ht hWm => ⟨⟨x29_, u27, rfl, Option.some.inj hF, h_end hGr hr hS ht hWm⟩, hS.F ht⟩) hS.2.2 dX1_solution_83
    · replace hF := it_t c21 hF
      refine lv_iconst (v := 1) hx hb dX1_solution_49 (by decide) ?_
      refine lv_goto (tgt := 54) hx hb dX1_solution_50 (by decide) ?_
      rcases bnx_s hF with ⟨r30, u30, e30, hF⟩ | ⟨q30, u30, e30, hF⟩
      rotate_left
      · obtain ⟨mc30, ms30, hmc30, hms30⟩ := up_of (moX1_requireState u20 (1 : Int32) _ e30)
        have hcx := cst_call hc hmc30 hms30
        have bx30 := bud_r hcx hF hmc hms
        refine h_xthrv rfl (vx_runS (As := [.int 1]) (rest := []) ⟨hx, hb, hml, hown, hts⟩ (mgX1_requireState l hl0 D A u20 (1 : Int32) _ e30 mc30 ms30 hmc30 hms30) (va_cwS 1 hts (lw_S q1326 q1327 q101 q1328) rfl rfl rfl (by decide +kernel) ⟨Nat.le_of_ble_eq_true rfl, Nat.le_of_ble_eq_true rfl⟩) (h_preS hGr hr hS _) rfl rfl hl.1 rfl (lv_room (Nat.le_of_ble_eq_true rfl)) dX1_solution_54 ⟨bx30.1, bx30.2⟩) hS (fun E9 q9 u9 H locs ce9 e1 e2 e3 hr hS h1 h2 h3 => ?_)
        exact h_xpass hGr htb hlocks hF bx30 e1 e2 e3 hr hS h1 h2 h3
      have mm30 : hle u30 out.2 := (show Mo u30 _ from mo_gQ (fun x31_ => mo_gC (mo_bnd (moX2_solution n u30 x31_) hle_rf (fun r32 u32 m32 => mo_oN (mo_bnx (moX1_requireElement u32 (0 : Int32)) m32 (fun r34 u34 m34 => mo_no)) (fun b33 => mo_bnx (moX1_requireElement u32 (1 : Int32)) m32 (fun r35 u35 m35 => mo_gQ (fun x36_ => mo_aI (fun x37_ => mo_ret m35)))))))) _ hF
      obtain ⟨mc30, ms30, hmc30, hms30⟩ := up_of (moX1_requireState u20 (1 : Int32) _ e30)
      replace hc := cst_call hc hmc30 hms30
      refine h_xretv rfl (vx_runS (As := [.int 1]) (rest := []) ⟨hx, hb, hml, hown, hts⟩ (mgX1_requireState l hl0 D A u20 (1 : Int32) _ e30 mc30 ms30 hmc30 hms30) (va_cwS 1 hts (lw_S q1326 q1327 q101 q1328) rfl rfl rfl (by decide +kernel) ⟨Nat.le_of_ble_eq_true rfl, Nat.le_of_ble_eq_true rfl⟩) (h_preS hGr hr hS _) rfl rfl hl.1 rfl (lv_room (Nat.le_of_ble_eq_true rfl)) dX1_solution_54 ⟨(bud hc mm30 hmc hms).1, (bud hc mm30 hmc hms).2⟩) hS (fun H locs hr hS => ?_)
      refine lv_aload_n hx hb dX1_solution_57 rfl (lv_at hl 0 rfl) ?_
      obtain ⟨fs31, x31_, e31, f31, hF⟩ := gQ_s hF
      refine h_get (C := RX1) (T := TX1) (N := 7) hx hb hts in_X1 hown hGr hr e31 (by decide) rfl 0 (by decide) (hts _ q633) (fun _ h9 => h9) f31 dX1_solution_58 ?_
      obtain ⟨fc32, ec32, hF⟩ := gC_s hF
      obtain ⟨r32, u32, e32, hF⟩ := bnd_s hF
      have mm32 : hle u32 out.2 := (show Mo u32 _ from mo_oN (mo_bnx (moX1_requireElement u32 (0 : Int32)) hle_rf (fun r34 u34 m34 => mo_no)) (fun b33 => mo_bnx (moX1_requireElement u32 (1 : Int32)) hle_rf (fun r35 u35 m35 => mo_gQ (fun x36_ => mo_aI (fun x37_ => mo_ret m35))))) _ hF
      obtain ⟨mc32, ms32, hmc32, hms32⟩ := up_of (moX2_solution n u30 x31_ _ e32)
      replace hc := cst_call hc hmc32 hms32
      refine h_callq (va_runV (As := []) (rest := []) ⟨hx, hb, hml, hown, hts⟩ (mgX2_solution l D A u30 n x31_ _ e32 mc32 ms32 hmc32 hms32) (cwV 0 hts (lw_V q1898 q1899 q1900 q102 q1901) rfl rfl rfl (by decide +kernel) ⟨Nat.le_of_ble_eq_true rfl, Nat.le_of_ble_eq_true rfl⟩) (h_preV hGr hr hS ec32 (by decide) (q := (RX2, TX2, 11)) rfl _) rfl rfl hl.1 rfl (lv_room (Nat.le_of_ble_eq_true rfl)) dX1_solution_61 ⟨(bud hc mm32 hmc hms).1, (bud hc mm32 hmc hms).2⟩) hS (fun rr uu H locs hw hr hS => ?_)
      obtain rfl : u32 = uu := (congrArg Prod.snd hw).symm
      obtain rfl : r32 = rr := (congrArg Prod.fst hw).symm
      rcases oN_s hF with ⟨rfl, hFn⟩ | ⟨b33, rfl, hFn⟩
      · replace hF := hFn
        refine lv_astore_nN (lv' := [(2, .null), (0, .ref a0), (1, .int p1)]) hx hb dX1_solution_64 rfl hl (by decide) rfl (fun ls hl => ?_)
        refine lv_aload_nN hx hb dX1_solution_65 rfl (lv_at hl 0 rfl) ?_
        refine lv_ifnullN (tgt := 73) hx hb dX1_solution_66 (by decide) ?_
        refine lv_iconst (v := 0) hx hb dX1_solution_73 (by decide) ?_
        rcases bnx_s hF with ⟨r34, u34, e34, hF⟩ | ⟨q34, u34, e34, hF⟩
        rotate_left
        · obtain ⟨mc34, ms34, hmc34, hms34⟩ := up_of (moX1_requireElement u32 (0 : Int32) _ e34)
          have hcx := cst_call hc hmc34 hms34
          have bx34 := bud_r hcx hF hmc hms
          refine h_xthrv rfl (vx_runS (As := [.int 0]) (rest := []) ⟨hx, hb, hml, hown, hts⟩ (mgX1_requireElement l hl0 D A u32 (0 : Int32) _ e34 mc34 ms34 hmc34 hms34) (va_cwS 1 hts (lw_S q1906 q1907 q101 q1908) rfl rfl rfl (by decide +kernel) ⟨Nat.le_of_ble_eq_true rfl, Nat.le_of_ble_eq_true rfl⟩) (h_preS hGr hr hS _) rfl rfl hl.1 rfl (lv_room (Nat.le_of_ble_eq_true rfl)) dX1_solution_74 ⟨bx34.1, bx34.2⟩) hS (fun E9 q9 u9 H locs ce9 e1 e2 e3 hr hS h1 h2 h3 => ?_)
          exact h_xpass hGr htb hlocks hF bx34 e1 e2 e3 hr hS h1 h2 h3
        have mm34 : hle u34 out.2 := (show Mo u34 _ from mo_no) _ hF
        obtain ⟨mc34, ms34, hmc34, hms34⟩ := up_of (moX1_requireElement u32 (0 : Int32) _ e34)
        replace hc := cst_call hc hmc34 hms34
        refine h_xretv rfl (vx_runS (As := [.int 0]) (rest := []) ⟨hx, hb, hml, hown, hts⟩ (mgX1_requireElement l hl0 D A u32 (0 : Int32) _ e34 mc34 ms34 hmc34 hms34) (va_cwS 1 hts (lw_S q1906 q1907 q101 q1908) rfl rfl rfl (by decide +kernel) ⟨Nat.le_of_ble_eq_true rfl, Nat.le_of_ble_eq_true rfl⟩) (h_preS hGr hr hS _) rfl rfl hl.1 rfl (lv_room (Nat.le_of_ble_eq_true rfl)) dX1_solution_74 ⟨(bud hc mm34 hmc hms).1, (bud hc mm34 hmc hms).2⟩) hS (fun H locs hr hS => ?_)
        refine lv_aload_nN hx hb dX1_solution_77 rfl (lv_at hl 0 rfl) ?_
        exact nomatch hF
      · replace hF := hFn
        refine lv_astore_n (lv' := [(2, .ref b33), (0, .ref a0), (1, .int p1)]) hx hb dX1_solution_64 rfl hl (by decide) rfl (fun ls hl => ?_)
        refine lv_aload_n hx hb dX1_solution_65 rfl (lv_at hl 0 rfl) ?_
        refine lv_ifnull hx hb dX1_solution_66 ?_
        refine lv_iconst (v := 1) hx hb dX1_solution_69 (by decide) ?_
        refine lv_goto (tgt := 74) hx hb dX1_solution_70 (by decide) ?_
        rcases bnx_s hF with ⟨r35, u35, e35, hF⟩ | ⟨q35, u35, e35, hF⟩
        rotate_left
        · obtain ⟨mc35, ms35, hmc35, hms35⟩ := up_of (moX1_requireElement u32 (1 : Int32) _ e35)
          have hcx := cst_call hc hmc35 hms35
          have bx35 := bud_r hcx hF hmc hms
          refine h_xthrv rfl (vx_runS (As := [.int 1]) (rest := []) ⟨hx, hb, hml, hown, hts⟩ (mgX1_requireElement l hl0 D A u32 (1 : Int32) _ e35 mc35 ms35 hmc35 hms35) (va_cwS 1 hts (lw_S q1906 q1907 q101 q1908) rfl rfl rfl (by decide +kernel) ⟨Nat.le_of_ble_eq_true rfl, Nat.le_of_ble_eq_true rfl⟩) (h_preS hGr hr hS _) rfl rfl hl.1 rfl (lv_room (Nat.le_of_ble_eq_true rfl)) dX1_solution_74 ⟨bx35.1, bx35.2⟩) hS (fun E9 q9 u9 H locs ce9 e1 e2 e3 hr hS h1 h2 h3 => ?_)
          exact h_xpass hGr htb hlocks hF bx35 e1 e2 e3 hr hS h1 h2 h3
        have mm35 : hle u35 out.2 := (show Mo u35 _ from mo_gQ (fun x36_ => mo_aI (fun x37_ => mo_ret hle_rf))) _ hF
        obtain ⟨mc35, ms35, hmc35, hms35⟩ := up_of (moX1_requireElement u32 (1 : Int32) _ e35)
        replace hc := cst_call hc hmc35 hms35
        refine h_xretv rfl (vx_runS (As := [.int 1]) (rest := []) ⟨hx, hb, hml, hown, hts⟩ (mgX1_requireElement l hl0 D A u32 (1 : Int32) _ e35 mc35 ms35 hmc35 hms35) (va_cwS 1 hts (lw_S q1906 q1907 q101 q1908) rfl rfl rfl (by decide +kernel) ⟨Nat.le_of_ble_eq_true rfl, Nat.le_of_ble_eq_true rfl⟩) (h_preS hGr hr hS _) rfl rfl hl.1 rfl (lv_room (Nat.le_of_ble_eq_true rfl)) dX1_solution_74 ⟨(bud hc mm35 hmc hms).1, (bud hc mm35 hmc hms).2⟩) hS (fun H locs hr hS => ?_)
        refine lv_aload_n hx hb dX1_solution_77 rfl (lv_at hl 0 rfl) ?_
        obtain ⟨fs36, x36_, e36, f36, hF⟩ := gQ_s hF
        refine h_getN (C := RX4) (T := TX4) (N := 1) hx hb hts in_X4 hown hGr hr e36 (by decide) rfl 0 (by decide) (va_Nw.use rfl (hGr.nw q557 rfl)) (fun _ h9 => h9) f36 dX1_solution_78 ?_
        refine lv_iload_n hx hb dX1_solution_81 rfl (lv_at hl 2 rfl) ?_
        obtain ⟨n37, f37, e37, g37, hF⟩ := aI_s hF
        obtain ⟨x37_, ex37⟩ : ∃ z, z = f37 (p1).toNatClampNeg := ⟨_, rfl⟩
        rw [← ex37] at hF
        refine h_iald hx hb hGr hr 0 rfl e37 g37 dX1_solution_82 ?_
        rw [← ex37]
        have bz := bud_r hc hF hmc hms
        refine vx_ret ?_
        refine W.widen (k := mc) (n := ms) bz.1 bz.2 ?_
        exact W.iret (v := x37_) hx hb hret (fun t ht hWm => ⟨⟨x37_, u35, rfl, Option.some.inj hF, h_end hGr hr hS ht hWm⟩, hS.F ht⟩) hS.2.2 dX1_solution_83
