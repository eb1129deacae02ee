/-! the component and what it calls of the library, walked by program (tool/dc.py): G.. the pure function, mo.. its growth, mg.. the contract -/
def GJ15_equals_1 (R : Nat → Hp → Nat → Nat → Int32 → Option (Int32 × Hp)) (n : Nat) (h : Hp) (b0 : Nat) (b1 : Nat) (x2 : Int32) : Option (Int32 × Hp) := aL h b0 (fun x4_ => if x4_ ≤ x2 then some ((1 : Int32), h) else aI h b0 1 x2 (fun x6_ => aI h b1 1 x2 (fun x7_ => if x6_ = x7_ then R 1 h b0 b1 (x2 + 1) else some ((0 : Int32), h))))
def GJ15_equals_r : Nat → Nat → Hp → Nat → Nat → Int32 → Option (Int32 × Hp)
  | 0 => fun _ _ _ _ _ => none
  | n + 1 => fun k => match k with  | _ => GJ15_equals_1 (GJ15_equals_r n) n
def GJ15_equals_0 (R : Nat → Hp → Nat → Nat → Int32 → Option (Int32 × Hp)) (n : Nat) (h : Hp) (a0 : Nat) (a1 : Nat) : Option (Int32 × Hp) := aL h a0 (fun x1_ => aL h a1 (fun x2_ => if x1_ = x2_ then R 1 h a0 a1 (0 : Int32) else some ((0 : Int32), h)))
def GJ15_equals (n : Nat) (h : Hp) (a0 : Nat) (a1 : Nat) : Option (Int32 × Hp) := GJ15_equals_0 (GJ15_equals_r n) n h a0 a1
theorem moJ15_equals_r (n : Nat) : (∀ (h : Hp) (b0 : Nat) (b1 : Nat) (x2 : Int32), Mo h (GJ15_equals_r n 1 h b0 b1 x2)) := by
  induction n with
  | zero => exact (fun _ _ _ _ => mo_no)
  | succ n ih =>
    have ml1 := ih
    exact (fun h b0 b1 x2 => show Mo h (GJ15_equals_1 (GJ15_equals_r n) n h b0 b1 x2) from by unfold GJ15_equals_1; exact mo_aL (fun x4_ => mo_ite (mo_ret hle_rf) (mo_aI (fun x6_ => mo_aI (fun x7_ => mo_ite (mo_tr hle_rf (ml1 h b0 b1 (x2 + 1))) (mo_ret hle_rf))))))
theorem moJ15_equals (n : Nat) (h : Hp) (a0 : Nat) (a1 : Nat) : Mo h (GJ15_equals n h a0 a1) := by
  have ml1 := moJ15_equals_r n
  unfold GJ15_equals GJ15_equals_0
  exact mo_aL (fun x1_ => mo_aL (fun x2_ => mo_ite (mo_tr hle_rf (ml1 h a0 a1 (0 : Int32))) (mo_ret hle_rf)))
set_option maxHeartbeats 4000000 in
set_option maxRecDepth 100000 in
theorem mgJ15_equals (l : Launch) (D : HD) (A : Nat → Prop) (h : Hp) (n : Nat) (a0 : Nat) (a1 : Nat) (out : Int32 × Hp) (hF : GJ15_equals n h a0 a1 = some out) (mc ms : Nat) (hmc : hCc out.2 = hCc h + mc) (hms : hSl out.2 = hSl h + ms) : Met l yJ15_equals (ws_ yJ15_equals cJ15_equals 3 (some .boolean)) ({ frames := 0, cells := mc, slots := ms, locals := 0 }) (va_Pc [.ref a0, .ref a1] (hW D A h)) (va_Qi (fun r u => (r, u) = out) (hW D A) A) mc ms A := by
  refine va_MetF (cc := cJ15_equals) (maxL := 3) (ret := (some .boolean)) (by decide +kernel) rfl ?_
  intro p e s m args below meth c s₁ B hml hv
  obtain ⟨rfl, hr, hGr⟩ := hv
  have hx := B.exec
  have hb := B.bytes
  have hret := B.returns
  have hts := atoms_spec (ws := (ws_ yJ15_equals cJ15_equals 3 (some .boolean))) B.pre
  have hts : ∀ w ∈ lw_all, w.before _ s = true := fun w h => hts w (List.mem_cons_of_mem _ h)
  have hown : s.vm.findClass RJ15 = some m.cls := findClass_of_methodNamed B.named
  have hlocks := B.notSynchronized
  have hS : va_S A s.heap s.heap [] := va_S.rf
  have hc : cst h 0 0 h := cst_0
  have hl := lv_entry ([.ref a0, .ref a1]) (n := 3) (Nat.le_of_ble_eq_true rfl)
  rw [lg_entry_eq]
  generalize (lg_sl ([.ref a0, .ref a1]) ++ List.replicate (3 - (lg_sl ([.ref a0, .ref a1])).length) Slot.unset).toArray = ls at hl ⊢
  have hl : lv_has ls 3 [(0, .ref a0), (1, .ref a1)] := hl
  obtain ⟨h0, eh0⟩ : ∃ z, z = h := ⟨_, rfl⟩
  rw [← eh0] at hmc hms
  have loop : ∀ n : Nat, (∀ (h : Hp) (b0 : Nat) (b1 : Nat) (x2 : Int32), GJ15_equals_r n 1 h b0 b1 x2 = some out → ∀ (H : Heap) (locs : List Loc) (cells slots : Nat), cst h0 cells slots h → hR D A h H → va_S A s.heap H locs → ∀ ls : Array Slot, lv_has ls 3 [(0, .ref b0), (1, .ref b1), (2, .int x2)] → W p l e (headSpec (ws_ yJ15_equals cJ15_equals 3 (some .boolean)) ({ frames := 0, cells := mc, slots := ms, locals := 0 })).room s m ([.ref a0, .ref a1] : List Value).toArray below meth c H locs cells slots (MQ below (va_Qi (fun r u => (r, u) = out) (hW D A) A) ([.ref a0, .ref a1] : List Value).toArray s mc ms A) (F0 m 9 ls [])) := by
    intro n
    induction n with
    | zero => exact (fun _ _ _ _ h => nomatch h)
    | succ n ih =>
      have lp1 := ih
      have ml1 := moJ15_equals_r n
      intro h b0 b1 x2 hF H locs cells slots hc hr hS ls hl
      replace hF : GJ15_equals_1 (GJ15_equals_r n) n h b0 b1 x2 = some out := hF
      unfold GJ15_equals_1 at hF
      refine lv_iload_n hx hb dJ15_equals_9 rfl (lv_at hl 2 rfl) ?_
      refine lv_aload_n hx hb dJ15_equals_10 rfl (lv_at hl 0 rfl) ?_
      obtain ⟨k4, y4, e4, g4, hF⟩ := aL_s hF
      obtain ⟨x4_, ex4⟩ : ∃ z, z = Int32.ofNat y4.1 := ⟨_, rfl⟩
      rw [← ex4] at hF
      refine h_alen hx hb hGr hr e4 g4 dJ15_equals_11 ?_
      rw [← ex4]
      refine lv_icmp_ge (tgt := 32) hx hb dJ15_equals_12 (by decide) (fun c5 => ?_) (fun c5 => ?_)
      · replace hF := it_t c5 hF
        refine lv_iconst (v := 1) hx hb dJ15_equals_32 (by decide) ?_
        have bz := bud_r hc hF hmc hms
        refine W.widen (k := mc) (n := ms) bz.1 bz.2 ?_
        exact W.zret (v := (1 : Int32)) hx hb hret rfl (fun t ht hWm => ⟨⟨(1 : Int32), h, rfl, Option.some.inj hF, h_end hGr hr hS ht hWm⟩, hS.F ht⟩) hS.2.2 dJ15_equals_33
      · replace hF := it_f c5 hF
        refine lv_aload_n hx hb dJ15_equals_15 rfl (lv_at hl 0 rfl) ?_
        refine lv_iload_n hx hb dJ15_equals_16 rfl (lv_at hl 2 rfl) ?_
        obtain ⟨n6, f6, e6, g6, hF⟩ := aI_s hF
        obtain ⟨x6_, ex6⟩ : ∃ z, z = f6 (x2).toNatClampNeg := ⟨_, rfl⟩
        rw [← ex6] at hF
        refine h_bald hx hb hGr hr 1 rfl e6 g6 dJ15_equals_17 ?_
        rw [← ex6]
        refine lv_aload_n hx hb dJ15_equals_18 rfl (lv_at hl 1 rfl) ?_
        refine lv_iload_n hx hb dJ15_equals_19 rfl (lv_at hl 2 rfl) ?_
        obtain ⟨n7, f7, e7, g7, hF⟩ := aI_s hF
        obtain ⟨x7_, ex7⟩ : ∃ z, z = f7 (x2).toNatClampNeg := ⟨_, rfl⟩
        rw [← ex7] at hF
        refine h_bald hx hb hGr hr 1 rfl e7 g7 dJ15_equals_20 ?_
        rw [← ex7]
        refine lv_icmp_eq (tgt := 26) hx hb dJ15_equals_21 (by decide) (fun c8 => ?_) (fun c8 => ?_)
        · replace hF := it_t c8 hF
          refine lv_iinc (v := (x2 + 1)) (lv' := [(2, .int (x2 + 1)), (0, .ref b0), (1, .ref b1)]) hx hb dJ15_equals_26 hl (k := 2) rfl rfl (by decide) rfl (fun ls hl => ?_)
          refine lv_goto (tgt := 9) hx hb dJ15_equals_29 (by decide) ?_
          exact lp1 h b0 b1 (x2 + 1) hF _ _ _ _ hc hr hS ls (lv_sub hl [1, 2, 0] rfl)
        · replace hF := it_f c8 hF
          refine lv_iconst (v := 0) hx hb dJ15_equals_24 (by decide) ?_
          have bz := bud_r hc hF hmc hms
          refine W.widen (k := mc) (n := ms) bz.1 bz.2 ?_
          exact W.zret (v := (0 : Int32)) hx hb hret rfl (fun t ht hWm => ⟨⟨(0 : Int32), h, rfl, Option.some.inj hF, h_end hGr hr hS ht hWm⟩, hS.F ht⟩) hS.2.2 dJ15_equals_25
  have lp1 := loop n
  have ml1 := moJ15_equals_r n
  have hc : cst h0 0 0 h := by rw [eh0]; exact cst_0
  unfold GJ15_equals GJ15_equals_0 at hF
  refine lv_aload_n hx hb dJ15_equals_0 rfl (lv_at hl 0 rfl) ?_
  obtain ⟨k1, y1, e1, g1, hF⟩ := aL_s hF
  obtain ⟨x1_, ex1⟩ : ∃ z, z = Int32.ofNat y1.1 := ⟨_, rfl⟩
  rw [← ex1] at hF
  refine h_alen hx hb hGr hr e1 g1 dJ15_equals_1 ?_
  rw [← ex1]
  refine lv_aload_n hx hb dJ15_equals_2 rfl (lv_at hl 1 rfl) ?_
  obtain ⟨k2, y2, e2, g2, hF⟩ := aL_s hF
  obtain ⟨x2_, ex2⟩ : ∃ z, z = Int32.ofNat y2.1 := ⟨_, rfl⟩
  rw [← ex2] at hF
  refine h_alen hx hb hGr hr e2 g2 dJ15_equals_3 ?_
  rw [← ex2]
  refine lv_icmp_ne (tgt := 34) hx hb dJ15_equals_4 (by decide) (fun c3 => ?_) (fun c3 => ?_)
  · replace hF := it_f c3 hF
    refine lv_iconst (v := 0) hx hb dJ15_equals_34 (by decide) ?_
    have bz := bud_r hc hF hmc hms
    refine W.widen (k := mc) (n := ms) bz.1 bz.2 ?_
    exact W.zret (v := (0 : Int32)) hx hb hret rfl (fun t ht hWm => ⟨⟨(0 : Int32), h, rfl, Option.some.inj hF, h_end hGr hr hS ht hWm⟩, hS.F ht⟩) hS.2.2 dJ15_equals_35
  · replace hF := it_t c3 hF
    refine lv_iconst (v := 0) hx hb dJ15_equals_7 (by decide) ?_
    refine lv_istore_n (lv' := [(2, .int 0), (0, .ref a0), (1, .ref a1)]) hx hb dJ15_equals_8 rfl hl (by decide) rfl (fun ls hl => ?_)
    exact lp1 h a0 a1 (0 : Int32) hF _ _ _ _ hc hr hS ls (lv_sub hl [1, 2, 0] rfl)

def GJ9_equals (n : Nat) (h : Hp) (a0 : Nat) (a1 : Nat) : Option (Int32 × Hp) := if a0 = a1 then some ((1 : Int32), h) else gC h a1 13 (if (1 : Int32) = 0 then some ((0 : Int32), h) else gC h a1 13 (if (1 : Int32) = 0 then gQ h a0 13 0 (fun x6_ => gQ h a1 13 0 (fun x7_ => bnd (GJ15_equals n h x6_ x7_) (fun r8 u8 => if r8 = 0 then some ((0 : Int32), u8) else some ((1 : Int32), u8)))) else gI h a0 13 1 (fun x10_ => gI h a1 13 1 (fun x11_ => if x10_ = x11_ then gQ h a0 13 0 (fun x13_ => gQ h a1 13 0 (fun x14_ => bnd (GJ15_equals n h x13_ x14_) (fun r15 u15 => if r15 = 0 then some ((0 : Int32), u15) else some ((1 : Int32), u15)))) else some ((0 : Int32), h)))))
theorem moJ9_equals (n : Nat) (h : Hp) (a0 : Nat) (a1 : Nat) : Mo h (GJ9_equals n h a0 a1) := by
  unfold GJ9_equals
  exact mo_ite (mo_ret hle_rf) (mo_gC (mo_ite (mo_ret hle_rf) (mo_gC (mo_ite (mo_gQ (fun x6_ => mo_gQ (fun x7_ => mo_bnd (moJ15_equals n h x6_ x7_) hle_rf (fun r8 u8 m8 => mo_ite (mo_ret m8) (mo_ret m8))))) (mo_gI (fun x10_ => mo_gI (fun x11_ => mo_ite (mo_gQ (fun x13_ => mo_gQ (fun x14_ => mo_bnd (moJ15_equals n h x13_ x14_) hle_rf (fun r15 u15 m15 => mo_ite (mo_ret m15) (mo_ret m15))))) (mo_ret hle_rf))))))))
set_option maxHeartbeats 4000000 in
set_option maxRecDepth 100000 in
theorem mgJ9_equals (l : Launch) (D : HD) (A : Nat → Prop) (h : Hp) (n : Nat) (a0 : Nat) (a1 : Nat) (out : Int32 × Hp) (hF : GJ9_equals n h a0 a1 = some out) (mc ms : Nat) (hmc : hCc out.2 = hCc h + mc) (hms : hSl out.2 = hSl h + ms) : Met l yJ9_equals (ws_ yJ9_equals cJ9_equals 3 (some .boolean)) ({ frames := 1, cells := mc, slots := ms, locals := 22 }) (va_Pc [.ref a0, .ref a1] (hW D A h)) (va_Qi (fun r u => (r, u) = out) (hW D A) A) mc ms A := by
  refine va_MetF (cc := cJ9_equals) (maxL := 3) (ret := (some .boolean)) (by decide +kernel) rfl ?_
  intro p e s m args below meth c s₁ B hml hv
  obtain ⟨rfl, hr, hGr⟩ := hv
  have hx := B.exec
  have hb := B.bytes
  have hret := B.returns
  have hts := atoms_spec (ws := (ws_ yJ9_equals cJ9_equals 3 (some .boolean))) B.pre
  have hts : ∀ w ∈ lw_all, w.before _ s = true := fun w h => hts w (List.mem_cons_of_mem _ h)
  have hown : s.vm.findClass RJ9 = some m.cls := findClass_of_methodNamed B.named
  have hlocks := B.notSynchronized
  have hS : va_S A s.heap s.heap [] := va_S.rf
  have hc : cst h 0 0 h := cst_0
  have hl := lv_entry ([.ref a0, .ref a1]) (n := 3) (Nat.le_of_ble_eq_true rfl)
  rw [lg_entry_eq]
  generalize (lg_sl ([.ref a0, .ref a1]) ++ List.replicate (3 - (lg_sl ([.ref a0, .ref a1])).length) Slot.unset).toArray = ls at hl ⊢
  have hl : lv_has ls 3 [(0, .ref a0), (1, .ref a1)] := hl
  unfold GJ9_equals at hF
  refine lv_aload_n hx hb dJ9_equals_0 rfl (lv_at hl 0 rfl) ?_
  refine lv_aload_n hx hb dJ9_equals_1 rfl (lv_at hl 1 rfl) ?_
  refine lv_acmp_ne (rx := some a0) (ry := some a1) (tgt := 7) hx hb dJ9_equals_2 (by decide) (fun c1 => ?_) (fun c1 => ?_)
  · replace hF := it_f (fun e9 => c1 (congrArg some e9)) hF
    refine lv_aload_n hx hb dJ9_equals_7 rfl (lv_at hl 1 rfl) ?_
    obtain ⟨fs2, e2, hF⟩ := gC_s hF
    refine va_instE hx hb hown (hts _ q1481) (va_recv (q0 := 0) hGr.K (va_P1 (hr.at_o e2 (by decide))) (ci := 13) rfl rfl) dJ9_equals_8 ?_
    refine lv_if_eq (tgt := 54) hx hb dJ9_equals_11 (by decide) (fun c3 => ?_) (fun c3 => ?_)
    · replace hF := it_t c3 hF
      refine lv_iconst (v := 0) hx hb dJ9_equals_54 (by decide) ?_
      have bz := bud_r hc hF hmc hms
      refine W.widen (k := mc) (n := ms) bz.1 bz.2 ?_
      exact W.zret (v := (0 : Int32)) hx hb hret rfl (fun t ht hWm => ⟨⟨(0 : Int32), h, rfl, Option.some.inj hF, h_end hGr hr hS ht hWm⟩, hS.F ht⟩) hS.2.2 dJ9_equals_55
    · replace hF := it_f c3 hF
      refine lv_aload_n hx hb dJ9_equals_14 rfl (lv_at hl 1 rfl) ?_
      obtain ⟨fs4, e4, hF⟩ := gC_s hF
      refine h_cast hx hb hown (hts _ q1481) hGr hr e4 (by decide) (T := TJ9) (N := 4) rfl dJ9_equals_15 ?_
      refine lv_astore_n (lv' := [(2, .ref a1), (0, .ref a0), (1, .ref a1)]) hx hb dJ9_equals_18 rfl hl (by decide) rfl (fun ls hl => ?_)
      refine va_gets hx hb hGr.cs hS hown (hts _ q380) (fun _ h9 => h9) dJ9_equals_19 ?_
      refine lv_if_eq (tgt := 36) hx hb dJ9_equals_22 (by decide) (fun c5 => ?_) (fun c5 => ?_)
      · replace hF := it_t c5 hF
        refine lv_aload_n hx hb dJ9_equals_36 rfl (lv_at hl 1 rfl) ?_
        obtain ⟨fs6, x6_, e6, f6, hF⟩ := gQ_s hF
        refine h_get (C := RJ9) (T := TJ9) (N := 4) hx hb hts in_J9 hown hGr hr e6 (by decide) rfl 0 (by decide) (hts _ q521) (fun _ h9 => h9) f6 dJ9_equals_37 ?_
        refine lv_aload_n hx hb dJ9_equals_40 rfl (lv_at hl 0 rfl) ?_
        obtain ⟨fs7, x7_, e7, f7, hF⟩ := gQ_s hF
        refine h_get (C := RJ9) (T := TJ9) (N := 4) hx hb hts in_J9 hown hGr hr e7 (by decide) rfl 0 (by decide) (hts _ q521) (fun _ h9 => h9) f7 dJ9_equals_41 ?_
        obtain ⟨r8, u8, e8, hF⟩ := bnd_s hF
        have mm8 : hle u8 out.2 := (show Mo u8 _ from mo_ite (mo_ret hle_rf) (mo_ret hle_rf)) _ hF
        obtain ⟨mc8, ms8, hmc8, hms8⟩ := up_of (moJ15_equals n h x6_ x7_ _ e8)
        replace hc := cst_call hc hmc8 hms8
        refine h_calli (va_runS (As := [.ref x6_, .ref x7_]) (rest := []) ⟨hx, hb, hml, hown, hts⟩ (mgJ15_equals l D A h n x6_ x7_ _ e8 mc8 ms8 hmc8 hms8) (va_cwS 2 hts (lw_S q1482 q1483 q120 q1484) rfl rfl rfl (by decide +kernel) ⟨Nat.le_of_ble_eq_true rfl, Nat.le_of_ble_eq_true rfl⟩) (h_preS hGr hr hS _) rfl rfl hl.1 rfl (lv_room (Nat.le_of_ble_eq_true rfl)) dJ9_equals_44 ⟨(bud hc mm8 hmc hms).1, (bud hc mm8 hmc hms).2⟩) hS (fun rr uu H locs hw hr hS => ?_)
        obtain rfl : u8 = uu := (congrArg Prod.snd hw).symm
        obtain rfl : r8 = rr := (congrArg Prod.fst hw).symm
        refine lv_if_eq (tgt := 54) hx hb dJ9_equals_47 (by decide) (fun c9 => ?_) (fun c9 => ?_)
        · replace hF := it_t c9 hF
          refine lv_iconst (v := 0) hx hb dJ9_equals_54 (by decide) ?_
          have bz := bud_r hc hF hmc hms
          refine W.widen (k := mc) (n := ms) bz.1 bz.2 ?_
          exact W.zret (v := (0 : Int32)) hx hb hret rfl (fun t ht hWm => ⟨⟨(0 : Int32), u8, rfl, Option.some.inj hF, h_end hGr hr hS ht hWm⟩, hS.F ht⟩) hS.2.2 dJ9_equals_55
        · replace hF := it_f c9 hF
          refine lv_iconst (v := 1) hx hb dJ9_equals_50 (by decide) ?_
          refine lv_goto (tgt := 55) hx hb dJ9_equals_51 (by decide) ?_
          have bz := bud_r hc hF hmc hms
          refine W.widen (k := mc) (n := ms) bz.1 bz.2 ?_
          exact W.zret (v := (1 : Int32)) hx hb hret rfl (fun t ht hWm => ⟨⟨(1 : Int32), u8, rfl, Option.some.inj hF, h_end hGr hr hS ht hWm⟩, hS.F ht⟩) hS.2.2 dJ9_equals_55
      · replace hF := it_f c5 hF
        refine lv_aload_n hx hb dJ9_equals_25 rfl (lv_at hl 1 rfl) ?_
        obtain ⟨fs10, x10_, e10, f10, hF⟩ := gI_s hF
        refine h_get (C := RJ9) (T := TJ9) (N := 4) hx hb hts in_J9 hown hGr hr e10 (by decide) rfl 1 (by decide) (hts _ q522) (fun _ h9 => h9) f10 dJ9_equals_26 ?_
        refine lv_aload_n hx hb dJ9_equals_29 rfl (lv_at hl 0 rfl) ?_
        obtain ⟨fs11, x11_, e11, f11, hF⟩ := gI_s hF
        refine h_get (C := RJ9) (T := TJ9) (N := 4) hx hb hts in_J9 hown hGr hr e11 (by decide) rfl 1 (by decide) (hts _ q522) (fun _ h9 => h9) f11 dJ9_equals_30 ?_
        refine lv_icmp_ne (tgt := 54) hx hb dJ9_equals_33 (by decide) (fun c12 => ?_) (fun c12 => ?_)
        · replace hF := it_f c12 hF
          refine lv_iconst (v := 0) hx hb dJ9_equals_54 (by decide) ?_
          have bz := bud_r hc hF hmc hms
          refine W.widen (k := mc) (n := ms) bz.1 bz.2 ?_
          exact W.zret (v := (0 : Int32)) hx hb hret rfl (fun t ht hWm => ⟨⟨(0 : Int32), h, rfl, Option.some.inj hF, h_end hGr hr hS ht hWm⟩, hS.F ht⟩) hS.2.2 dJ9_equals_55
        · replace hF := it_t c12 hF
          refine lv_aload_n hx hb dJ9_equals_36 rfl (lv_at hl 1 rfl) ?_
          obtain ⟨fs13, x13_, e13, f13, hF⟩ := gQ_s hF
          refine h_get (C := RJ9) (T := TJ9) (N := 4) hx hb hts in_J9 hown hGr hr e13 (by decide) rfl 0 (by decide) (hts _ q521) (fun _ h9 => h9) f13 dJ9_equals_37 ?_
          refine lv_aload_n hx hb dJ9_equals_40 rfl (lv_at hl 0 rfl) ?_
          obtain ⟨fs14, x14_, e14, f14, hF⟩ := gQ_s hF
          refine h_get (C := RJ9) (T := TJ9) (N := 4) hx hb hts in_J9 hown hGr hr e14 (by decide) rfl 0 (by decide) (hts _ q521) (fun _ h9 => h9) f14 dJ9_equals_41 ?_
          obtain ⟨r15, u15, e15, hF⟩ := bnd_s hF
          have mm15 : hle u15 out.2 := (show Mo u15 _ from mo_ite (mo_ret hle_rf) (mo_ret hle_rf)) _ hF
          obtain ⟨mc15, ms15, hmc15, hms15⟩ := up_of (moJ15_equals n h x13_ x14_ _ e15)
          replace hc := cst_call hc hmc15 hms15
          refine h_calli (va_runS (As := [.ref x13_, .ref x14_]) (rest := []) ⟨hx, hb, hml, hown, hts⟩ (mgJ15_equals l D A h n x13_ x14_ _ e15 mc15 ms15 hmc15 hms15) (va_cwS 2 hts (lw_S q1482 q1483 q120 q1484) rfl rfl rfl (by decide +kernel) ⟨Nat.le_of_ble_eq_true rfl, Nat.le_of_ble_eq_true rfl⟩) (h_preS hGr hr hS _) rfl rfl hl.1 rfl (lv_room (Nat.le_of_ble_eq_true rfl)) dJ9_equals_44 ⟨(bud hc mm15 hmc hms).1, (bud hc mm15 hmc hms).2⟩) hS (fun rr uu H locs hw hr hS => ?_)
          obtain rfl : u15 = uu := (congrArg Prod.snd hw).symm
          obtain rfl : r15 = rr := (congrArg Prod.fst hw).symm
          refine lv_if_eq (tgt := 54) hx hb dJ9_equals_47 (by decide) (fun c16 => ?_) (fun c16 => ?_)
          · replace hF := it_t c16 hF
            refine lv_iconst (v := 0) hx hb dJ9_equals_54 (by decide) ?_
            have bz := bud_r hc hF hmc hms
            refine W.widen (k := mc) (n := ms) bz.1 bz.2 ?_
            exact W.zret (v := (0 : Int32)) hx hb hret rfl (fun t ht hWm => ⟨⟨(0 : Int32), u15, rfl, Option.some.inj hF, h_end hGr hr hS ht hWm⟩, hS.F ht⟩) hS.2.2 dJ9_equals_55
          · replace hF := it_f c16 hF
            refine lv_iconst (v := 1) hx hb dJ9_equals_50 (by decide) ?_
            refine lv_goto (tgt := 55) hx hb dJ9_equals_51 (by decide) ?_
            have bz := bud_r hc hF hmc hms
            refine W.widen (k := mc) (n := ms) bz.1 bz.2 ?_
            exact W.zret (v := (1 : Int32)) hx hb hret rfl (fun t ht hWm => ⟨⟨(1 : Int32), u15, rfl, Option.some.inj hF, h_end hGr hr hS ht hWm⟩, hS.F ht⟩) hS.2.2 dJ9_equals_55
  · replace hF := it_t (Option.some.inj c1) hF
    refine lv_iconst (v := 1) hx hb dJ9_equals_5 (by decide) ?_
    have bz := bud_r hc hF hmc hms
    refine W.widen (k := mc) (n := ms) bz.1 bz.2 ?_
    exact W.zret (v := (1 : Int32)) hx hb hret rfl (fun t ht hWm => ⟨⟨(1 : Int32), h, rfl, Option.some.inj hF, h_end hGr hr hS ht hWm⟩, hS.F ht⟩) hS.2.2 dJ9_equals_6

def GJ11_signedHashCode_1 (R : Nat → Hp → Int32 → Nat → Int32 → Int32 → Int32 → Int32 → Option (Int32 × Hp)) (n : Nat) (h : Hp) (x0 : Int32) (b1 : Nat) (x2 : Int32) (x3 : Int32) (x4 : Int32) (x5 : Int32) : Option (Int32 × Hp) := if x4 ≤ x5 then some (x0, h) else aI h b1 1 x5 (fun x2_ => R 1 h ((31 * x0) + (x2_ &&& 255)) b1 x2 x3 x4 (x5 + 1))
def GJ11_signedHashCode_r : Nat → Nat → Hp → Int32 → Nat → Int32 → Int32 → Int32 → Int32 → Option (Int32 × Hp)
  | 0 => fun _ _ _ _ _ _ _ _ => none
  | n + 1 => fun k => match k with  | _ => GJ11_signedHashCode_1 (GJ11_signedHashCode_r n) n
def GJ11_signedHashCode_0 (R : Nat → Hp → Int32 → Nat → Int32 → Int32 → Int32 → Int32 → Option (Int32 × Hp)) (n : Nat) (h : Hp) (p0 : Int32) (a1 : Nat) (p2 : Int32) (p3 : Int32) : Option (Int32 × Hp) := R 1 h p0 a1 p2 p3 (p2 + p3) p2
def GJ11_signedHashCode (n : Nat) (h : Hp) (p0 : Int32) (a1 : Nat) (p2 : Int32) (p3 : Int32) : Option (Int32 × Hp) := GJ11_signedHashCode_0 (GJ11_signedHashCode_r n) n h p0 a1 p2 p3
theorem moJ11_signedHashCode_r (n : Nat) : (∀ (h : Hp) (x0 : Int32) (b1 : Nat) (x2 : Int32) (x3 : Int32) (x4 : Int32) (x5 : Int32), Mo h (GJ11_signedHashCode_r n 1 h x0 b1 x2 x3 x4 x5)) := by
  induction n with
  | zero => exact (fun _ _ _ _ _ _ _ => mo_no)
  | succ n ih =>
    have ml1 := ih
    exact (fun h x0 b1 x2 x3 x4 x5 => show Mo h (GJ11_signedHashCode_1 (GJ11_signedHashCode_r n) n h x0 b1 x2 x3 x4 x5) from by unfold GJ11_signedHashCode_1; exact mo_ite (mo_ret hle_rf) (mo_aI (fun x2_ => mo_tr hle_rf (ml1 h ((31 * x0) + (x2_ &&& 255)) b1 x2 x3 x4 (x5 + 1)))))
theorem moJ11_signedHashCode (n : Nat) (h : Hp) (p0 : Int32) (a1 : Nat) (p2 : Int32) (p3 : Int32) : Mo h (GJ11_signedHashCode n h p0 a1 p2 p3) := by
  have ml1 := moJ11_signedHashCode_r n
  unfold GJ11_signedHashCode GJ11_signedHashCode_0
  exact mo_tr hle_rf (ml1 h p0 a1 p2 p3 (p2 + p3) p2)
set_option maxHeartbeats 4000000 in
set_option maxRecDepth 100000 in
theorem mgJ11_signedHashCode (l : Launch) (D : HD) (A : Nat → Prop) (h : Hp) (n : Nat) (p0 : Int32) (a1 : Nat) (p2 : Int32) (p3 : Int32) (out : Int32 × Hp) (hF : GJ11_signedHashCode n h p0 a1 p2 p3 = some out) (mc ms : Nat) (hmc : hCc out.2 = hCc h + mc) (hms : hSl out.2 = hSl h + ms) : Met l yJ11_signedHashCode (ws_ yJ11_signedHashCode cJ11_signedHashCode 6 (some .int)) ({ frames := 0, cells := mc, slots := ms, locals := 0 }) (va_Pc [.int p0, .ref a1, .int p2, .int p3] (hW D A h)) (va_Qi (fun r u => (r, u) = out) (hW D A) A) mc ms A := by
  refine va_MetF (cc := cJ11_signedHashCode) (maxL := 6) (ret := (some .int)) (by decide +kernel) rfl ?_
  intro p e s m args below meth c s₁ B hml hv
  obtain ⟨rfl, hr, hGr⟩ := hv
  have hx := B.exec
  have hb := B.bytes
  have hret := B.returns
  have hts := atoms_spec (ws := (ws_ yJ11_signedHashCode cJ11_signedHashCode 6 (some .int))) B.pre
  have hts : ∀ w ∈ lw_all, w.before _ s = true := fun w h => hts w (List.mem_cons_of_mem _ h)
  have hown : s.vm.findClass RJ11 = some m.cls := findClass_of_methodNamed B.named
  have hlocks := B.notSynchronized
  have hS : va_S A s.heap s.heap [] := va_S.rf
  have hc : cst h 0 0 h := cst_0
  have hl := lv_entry ([.int p0, .ref a1, .int p2, .int p3]) (n := 6) (Nat.le_of_ble_eq_true rfl)
  rw [lg_entry_eq]
  generalize (lg_sl ([.int p0, .ref a1, .int p2, .int p3]) ++ List.replicate (6 - (lg_sl ([.int p0, .ref a1, .int p2, .int p3])).length) Slot.unset).toArray = ls at hl ⊢
  have hl : lv_has ls 6 [(0, .int p0), (1, .ref a1), (2, .int p2), (3, .int p3)] := hl
  obtain ⟨h0, eh0⟩ : ∃ z, z = h := ⟨_, rfl⟩
  rw [← eh0] at hmc hms
  have loop : ∀ n : Nat, (∀ (h : Hp) (x0 : Int32) (b1 : Nat) (x2 : Int32) (x3 : Int32) (x4 : Int32) (x5 : Int32), GJ11_signedHashCode_r n 1 h x0 b1 x2 x3 x4 x5 = some out → ∀ (H : Heap) (locs : List Loc) (cells slots : Nat), cst h0 cells slots h → hR D A h H → va_S A s.heap H locs → ∀ ls : Array Slot, lv_has ls 6 [(0, .int x0), (1, .ref b1), (2, .int x2), (3, .int x3), (4, .int x4), (5, .int x5)] → W p l e (headSpec (ws_ yJ11_signedHashCode cJ11_signedHashCode 6 (some .int)) ({ frames := 0, cells := mc, slots := ms, locals := 0 })).room s m ([.int p0, .ref a1, .int p2, .int p3] : List Value).toArray below meth c H locs cells slots (MQ below (va_Qi (fun r u => (r, u) = out) (hW D A) A) ([.int p0, .ref a1, .int p2, .int p3] : List Value).toArray s mc ms A) (F0 m 8 ls [])) := by
    intro n
    induction n with
    | zero => exact (fun _ _ _ _ _ _ _ h => nomatch h)
    | succ n ih =>
      have lp1 := ih
      have ml1 := moJ11_signedHashCode_r n
      intro h x0 b1 x2 x3 x4 x5 hF H locs cells slots hc hr hS ls hl
      replace hF : GJ11_signedHashCode_1 (GJ11_signedHashCode_r n) n h x0 b1 x2 x3 x4 x5 = some out := hF
      unfold GJ11_signedHashCode_1 at hF
      refine lv_iload hx hb dJ11_signedHashCode_8 (lv_at hl 5 rfl) ?_
      refine lv_iload hx hb dJ11_signedHashCode_10 (lv_at hl 4 rfl) ?_
      refine lv_icmp_ge (tgt := 35) hx hb dJ11_signedHashCode_12 (by decide) (fun c1 => ?_) (fun c1 => ?_)
      · replace hF := it_t c1 hF
        refine lv_iload_n hx hb dJ11_signedHashCode_35 rfl (lv_at hl 0 rfl) ?_
        have bz := bud_r hc hF hmc hms
        refine W.widen (k := mc) (n := ms) bz.1 bz.2 ?_
        exact W.iret (v := x0) hx hb hret (fun t ht hWm => ⟨⟨x0, h, rfl, Option.some.inj hF, h_end hGr hr hS ht hWm⟩, hS.F ht⟩) hS.2.2 dJ11_signedHashCode_36
      · replace hF := it_f c1 hF
        refine lv_bipush (v := 31) hx hb dJ11_signedHashCode_15 (by decide) ?_
        refine lv_iload_n hx hb dJ11_signedHashCode_17 rfl (lv_at hl 0 rfl) ?_
        refine lv_imul hx hb dJ11_signedHashCode_18 ?_
        refine lv_aload_n hx hb dJ11_signedHashCode_19 rfl (lv_at hl 1 rfl) ?_
        refine lv_iload hx hb dJ11_signedHashCode_20 (lv_at hl 5 rfl) ?_
        obtain ⟨n2, f2, e2, g2, hF⟩ := aI_s hF
        obtain ⟨x2_, ex2⟩ : ∃ z, z = f2 (x5).toNatClampNeg := ⟨_, rfl⟩
        rw [← ex2] at hF
        refine h_bald hx hb hGr hr 1 rfl e2 g2 dJ11_signedHashCode_22 ?_
        rw [← ex2]
        refine lv_sipush (v := 255) hx hb dJ11_signedHashCode_23 (by decide) ?_
        refine lv_iand hx hb dJ11_signedHashCode_26 ?_
        refine lv_iadd hx hb dJ11_signedHashCode_27 ?_
        refine lv_istore_n (lv' := [(0, .int ((31 * x0) + (x2_ &&& 255))), (1, .ref b1), (2, .int x2), (3, .int x3), (4, .int x4), (5, .int x5)]) hx hb dJ11_signedHashCode_28 rfl hl (by decide) rfl (fun ls hl => ?_)
        refine lv_iinc (v := (x5 + 1)) (lv' := [(5, .int (x5 + 1)), (0, .int ((31 * x0) + (x2_ &&& 255))), (1, .ref b1), (2, .int x2), (3, .int x3), (4, .int x4)]) hx hb dJ11_signedHashCode_29 hl (k := 5) rfl rfl (by decide) rfl (fun ls hl => ?_)
        refine lv_goto (tgt := 8) hx hb dJ11_signedHashCode_32 (by decide) ?_
        exact lp1 h ((31 * x0) + (x2_ &&& 255)) b1 x2 x3 x4 (x5 + 1) hF _ _ _ _ hc hr hS ls (lv_sub hl [1, 2, 3, 4, 5, 0] rfl)
  have lp1 := loop n
  have ml1 := moJ11_signedHashCode_r n
  have hc : cst h0 0 0 h := by rw [eh0]; exact cst_0
  unfold GJ11_signedHashCode GJ11_signedHashCode_0 at hF
  refine lv_iload_n hx hb dJ11_signedHashCode_0 rfl (lv_at hl 2 rfl) ?_
  refine lv_iload_n hx hb dJ11_signedHashCode_1 rfl (lv_at hl 3 rfl) ?_
  refine lv_iadd hx hb dJ11_signedHashCode_2 ?_
  refine lv_istore (lv' := [(4, .int (p2 + p3)), (0, .int p0), (1, .ref a1), (2, .int p2), (3, .int p3)]) hx hb dJ11_signedHashCode_3 hl (by decide) rfl (fun ls hl => ?_)
  refine lv_iload_n hx hb dJ11_signedHashCode_5 rfl (lv_at hl 3 rfl) ?_
  refine lv_istore (lv' := [(5, .int p2), (4, .int (p2 + p3)), (0, .int p0), (1, .ref a1), (2, .int p2), (3, .int p3)]) hx hb dJ11_signedHashCode_6 hl (by decide) rfl (fun ls hl => ?_)
  exact lp1 h p0 a1 p2 p3 (p2 + p3) p2 hF _ _ _ _ hc hr hS ls (lv_sub hl [2, 3, 4, 5, 1, 0] rfl)

def GJ11_vectorizedHashCode (n : Nat) (h : Hp) (a0 : Nat) (p1 : Int32) (p2 : Int32) (p3 : Int32) (p4 : Int32) : Option (Int32 × Hp) := if p4 = 4 then gA h a0 1 (bnd (GJ11_signedHashCode n h p3 a0 p1 p2) (fun r3 u3 => some (r3, u3))) else none
theorem moJ11_vectorizedHashCode (n : Nat) (h : Hp) (a0 : Nat) (p1 : Int32) (p2 : Int32) (p3 : Int32) (p4 : Int32) : Mo h (GJ11_vectorizedHashCode n h a0 p1 p2 p3 p4) := by
  unfold GJ11_vectorizedHashCode
  exact mo_ite (mo_gA (mo_bnd (moJ11_signedHashCode n h p3 a0 p1 p2) hle_rf (fun r3 u3 m3 => mo_ret m3))) mo_no
set_option maxHeartbeats 4000000 in
set_option maxRecDepth 100000 in
theorem mgJ11_vectorizedHashCode (l : Launch) (D : HD) (A : Nat → Prop) (h : Hp) (n : Nat) (a0 : Nat) (p1 : Int32) (p2 : Int32) (p3 : Int32) (p4 : Int32) (out : Int32 × Hp) (hF : GJ11_vectorizedHashCode n h a0 p1 p2 p3 p4 = some out) (mc ms : Nat) (hmc : hCc out.2 = hCc h + mc) (hms : hSl out.2 = hSl h + ms) : Met l yJ11_vectorizedHashCode (ws_ yJ11_vectorizedHashCode cJ11_vectorizedHashCode 5 (some .int)) ({ frames := 1, cells := mc, slots := ms, locals := 25 }) (va_Pc [.ref a0, .int p1, .int p2, .int p3, .int p4] (hW D A h)) (va_Qi (fun r u => (r, u) = out) (hW D A) A) mc ms A := by
  refine va_MetF (cc := cJ11_vectorizedHashCode) (maxL := 5) (ret := (some .int)) (by decide +kernel) rfl ?_
  intro p e s m args below meth c s₁ B hml hv
  obtain ⟨rfl, hr, hGr⟩ := hv
  have hx := B.exec
  have hb := B.bytes
  have hret := B.returns
  have hts := atoms_spec (ws := (ws_ yJ11_vectorizedHashCode cJ11_vectorizedHashCode 5 (some .int))) B.pre
  have hts : ∀ w ∈ lw_all, w.before _ s = true := fun w h => hts w (List.mem_cons_of_mem _ h)
  have hown : s.vm.findClass RJ11 = some m.cls := findClass_of_methodNamed B.named
  have hlocks := B.notSynchronized
  have hS : va_S A s.heap s.heap [] := va_S.rf
  have hc : cst h 0 0 h := cst_0
  have hl := lv_entry ([.ref a0, .int p1, .int p2, .int p3, .int p4]) (n := 5) (Nat.le_of_ble_eq_true rfl)
  rw [lg_entry_eq]
  generalize (lg_sl ([.ref a0, .int p1, .int p2, .int p3, .int p4]) ++ List.replicate (5 - (lg_sl ([.ref a0, .int p1, .int p2, .int p3, .int p4])).length) Slot.unset).toArray = ls at hl ⊢
  have hl : lv_has ls 5 [(0, .ref a0), (1, .int p1), (2, .int p2), (3, .int p3), (4, .int p4)] := hl
  unfold GJ11_vectorizedHashCode at hF
  refine lv_iload hx hb dJ11_vectorizedHashCode_0 (lv_at hl 4 rfl) ?_
  rcases Decidable.em (p4 = 4) with c1 | c1
  rotate_left
  · exact nomatch it_f c1 hF
  · replace hF := it_t c1 hF
    refine lv_tableIn (off := 42) (tgt := 44) hx hb dJ11_vectorizedHashCode_2 (by rw [c1]; decide) (by rw [c1]; decide) (by rw [c1]; rfl) (by decide) ?_
    refine lv_iload_n hx hb dJ11_vectorizedHashCode_44 rfl (lv_at hl 3 rfl) ?_
    refine lv_aload_n hx hb dJ11_vectorizedHashCode_45 rfl (lv_at hl 0 rfl) ?_
    obtain ⟨y2, e2, hF⟩ := gA_s hF
    refine h_castA hx hb hown (hts _ q1554) hr e2 (h_nmB hGr) dJ11_vectorizedHashCode_46 ?_
    refine lv_iload_n hx hb dJ11_vectorizedHashCode_49 rfl (lv_at hl 1 rfl) ?_
    refine lv_iload_n hx hb dJ11_vectorizedHashCode_50 rfl (lv_at hl 2 rfl) ?_
    obtain ⟨r3, u3, e3, hF⟩ := bnd_s hF
    have mm3 : hle u3 out.2 := (show Mo u3 _ from mo_ret hle_rf) _ hF
    obtain ⟨mc3, ms3, hmc3, hms3⟩ := up_of (moJ11_signedHashCode n h p3 a0 p1 p2 _ e3)
    replace hc := cst_call hc hmc3 hms3
    refine h_calli (va_runS (As := [.int p3, .ref a0, .int p1, .int p2]) (rest := []) ⟨hx, hb, hml, hown, hts⟩ (mgJ11_signedHashCode l D A h n p3 a0 p1 p2 _ e3 mc3 ms3 hmc3 hms3) (va_cwS 4 hts (lw_S q1555 q1556 q115 q1557) rfl rfl rfl (by decide +kernel) ⟨Nat.le_of_ble_eq_true rfl, Nat.le_of_ble_eq_true rfl⟩) (h_preS hGr hr hS _) rfl rfl hl.1 rfl (lv_room (Nat.le_of_ble_eq_true rfl)) dJ11_vectorizedHashCode_51 ⟨(bud hc mm3 hmc hms).1, (bud hc mm3 hmc hms).2⟩) hS (fun rr uu H locs hw hr hS => ?_)
    obtain rfl : u3 = uu := (congrArg Prod.snd hw).symm
    obtain rfl : r3 = rr := (congrArg Prod.fst hw).symm
    refine lv_goto (tgt := 157) hx hb dJ11_vectorizedHashCode_54 (by decide) ?_
    have bz := bud_r hc hF hmc hms
    refine W.widen (k := mc) (n := ms) bz.1 bz.2 ?_
    exact W.iret (v := r3) hx hb hret (fun t ht hWm => ⟨⟨r3, u3, rfl, Option.some.inj hF, h_end hGr hr hS ht hWm⟩, hS.F ht⟩) hS.2.2 dJ11_vectorizedHashCode_157

def GJ15_hashCode (n : Nat) (h : Hp) (a0 : Nat) : Option (Int32 × Hp) := aL h a0 (fun x1_ => if x1_ = (0 : Int32) then some ((0 : Int32), h) else if x1_ = (1 : Int32) then aI h a0 1 (0 : Int32) (fun x4_ => some ((x4_ &&& 255), h)) else aL h a0 (fun x5_ => bnd (GJ11_vectorizedHashCode n h a0 (0 : Int32) x5_ (0 : Int32) (4 : Int32)) (fun r6 u6 => some (r6, u6))))
theorem moJ15_hashCode (n : Nat) (h : Hp) (a0 : Nat) : Mo h (GJ15_hashCode n h a0) := by
  unfold GJ15_hashCode
  exact mo_aL (fun x1_ => mo_ite (mo_ret hle_rf) (mo_ite (mo_aI (fun x4_ => mo_ret hle_rf)) (mo_aL (fun x5_ => mo_bnd (moJ11_vectorizedHashCode n h a0 (0 : Int32) x5_ (0 : Int32) (4 : Int32)) hle_rf (fun r6 u6 m6 => mo_ret m6)))))
set_option maxHeartbeats 4000000 in
set_option maxRecDepth 100000 in
theorem mgJ15_hashCode (l : Launch) (D : HD) (A : Nat → Prop) (h : Hp) (n : Nat) (a0 : Nat) (out : Int32 × Hp) (hF : GJ15_hashCode n h a0 = some out) (mc ms : Nat) (hmc : hCc out.2 = hCc h + mc) (hms : hSl out.2 = hSl h + ms) : Met l yJ15_hashCode (ws_ yJ15_hashCode cJ15_hashCode 1 (some .int)) ({ frames := 2, cells := mc, slots := ms, locals := 49 }) (va_Pc [.ref a0] (hW D A h)) (va_Qi (fun r u => (r, u) = out) (hW D A) A) mc ms A := by
  refine va_MetF (cc := cJ15_hashCode) (maxL := 1) (ret := (some .int)) (by decide +kernel) rfl ?_
  intro p e s m args below meth c s₁ B hml hv
  obtain ⟨rfl, hr, hGr⟩ := hv
  have hx := B.exec
  have hb := B.bytes
  have hret := B.returns
  have hts := atoms_spec (ws := (ws_ yJ15_hashCode cJ15_hashCode 1 (some .int))) B.pre
  have hts : ∀ w ∈ lw_all, w.before _ s = true := fun w h => hts w (List.mem_cons_of_mem _ h)
  have hown : s.vm.findClass RJ15 = some m.cls := findClass_of_methodNamed B.named
  have hlocks := B.notSynchronized
  have hS : va_S A s.heap s.heap [] := va_S.rf
  have hc : cst h 0 0 h := cst_0
  have hl := lv_entry ([.ref a0]) (n := 1) (Nat.le_of_ble_eq_true rfl)
  rw [lg_entry_eq]
  generalize (lg_sl ([.ref a0]) ++ List.replicate (1 - (lg_sl ([.ref a0])).length) Slot.unset).toArray = ls at hl ⊢
  have hl : lv_has ls 1 [(0, .ref a0)] := hl
  unfold GJ15_hashCode at hF
  refine lv_aload_n hx hb dJ15_hashCode_0 rfl (lv_at hl 0 rfl) ?_
  obtain ⟨k1, y1, e1, g1, hF⟩ := aL_s hF
  obtain ⟨x1_, ex1⟩ : ∃ z, z = Int32.ofNat y1.1 := ⟨_, rfl⟩
  rw [← ex1] at hF
  refine h_alen hx hb hGr hr e1 g1 dJ15_hashCode_1 ?_
  rw [← ex1]
  rcases Decidable.em (x1_ = (0 : Int32)) with c2 | c2
  · replace hF := it_t c2 hF
    refine lv_lookup (off := 26) (tgt := 28) hx hb dJ15_hashCode_2 (by decide) (by rw [c2]; decide) (by decide) ?_
    refine lv_iconst (v := 0) hx hb dJ15_hashCode_28 (by decide) ?_
    refine lv_goto (tgt := 51) hx hb dJ15_hashCode_29 (by decide) ?_
    have bz := bud_r hc hF hmc hms
    refine W.widen (k := mc) (n := ms) bz.1 bz.2 ?_
    exact W.iret (v := (0 : Int32)) hx hb hret (fun t ht hWm => ⟨⟨(0 : Int32), h, rfl, Option.some.inj hF, h_end hGr hr hS ht hWm⟩, hS.F ht⟩) hS.2.2 dJ15_hashCode_51
  · replace hF := it_f c2 hF
    rcases Decidable.em (x1_ = (1 : Int32)) with c3 | c3
    · replace hF := it_t c3 hF
      refine lv_lookup (off := 30) (tgt := 32) hx hb dJ15_hashCode_2 (by decide) (by rw [c3]; decide) (by decide) ?_
      refine lv_aload_n hx hb dJ15_hashCode_32 rfl (lv_at hl 0 rfl) ?_
      refine lv_iconst (v := 0) hx hb dJ15_hashCode_33 (by decide) ?_
      obtain ⟨n4, f4, e4, g4, hF⟩ := aI_s hF
      obtain ⟨x4_, ex4⟩ : ∃ z, z = f4 ((0 : Int32)).toNatClampNeg := ⟨_, rfl⟩
      rw [← ex4] at hF
      refine h_bald hx hb hGr hr 1 rfl e4 g4 dJ15_hashCode_34 ?_
      rw [← ex4]
      refine lv_sipush (v := 255) hx hb dJ15_hashCode_35 (by decide) ?_
      refine lv_iand hx hb dJ15_hashCode_38 ?_
      refine lv_goto (tgt := 51) hx hb dJ15_hashCode_39 (by decide) ?_
      have bz := bud_r hc hF hmc hms
      refine W.widen (k := mc) (n := ms) bz.1 bz.2 ?_
      exact W.iret (v := (x4_ &&& 255)) hx hb hret (fun t ht hWm => ⟨⟨(x4_ &&& 255), h, rfl, Option.some.inj hF, h_end hGr hr hS ht hWm⟩, hS.F ht⟩) hS.2.2 dJ15_hashCode_51
    · replace hF := it_f c3 hF
      refine lv_lookup (off := 40) (tgt := 42) hx hb dJ15_hashCode_2 (by decide) (lk_out (ps := [(0, 26), (1, 30)]) (fun q hq => by
          simp only [List.mem_cons, List.not_mem_nil, or_false] at hq
          rcases hq with rfl | rfl
          · exact lk_ne (0 : Int32) (by decide) c2
          · exact lk_ne (1 : Int32) (by decide) c3)) (by decide) ?_
      refine lv_aload_n hx hb dJ15_hashCode_42 rfl (lv_at hl 0 rfl) ?_
      refine lv_iconst (v := 0) hx hb dJ15_hashCode_43 (by decide) ?_
      refine lv_aload_n hx hb dJ15_hashCode_44 rfl (lv_at hl 0 rfl) ?_
      obtain ⟨k5, y5, e5, g5, hF⟩ := aL_s hF
      obtain ⟨x5_, ex5⟩ : ∃ z, z = Int32.ofNat y5.1 := ⟨_, rfl⟩
      rw [← ex5] at hF
      refine h_alen hx hb hGr hr e5 g5 dJ15_hashCode_45 ?_
      rw [← ex5]
      refine lv_iconst (v := 0) hx hb dJ15_hashCode_46 (by decide) ?_
      refine lv_iconst (v := 4) hx hb dJ15_hashCode_47 (by decide) ?_
      obtain ⟨r6, u6, e6, hF⟩ := bnd_s hF
      have mm6 : hle u6 out.2 := (show Mo u6 _ from mo_ret hle_rf) _ hF
      obtain ⟨mc6, ms6, hmc6, hms6⟩ := up_of (moJ11_vectorizedHashCode n h a0 (0 : Int32) x5_ (0 : Int32) (4 : Int32) _ e6)
      replace hc := cst_call hc hmc6 hms6
      refine h_calli (va_runS (As := [.ref a0, .int 0, .int x5_, .int 0, .int 4]) (rest := []) ⟨hx, hb, hml, hown, hts⟩ (mgJ11_vectorizedHashCode l D A h n a0 (0 : Int32) x5_ (0 : Int32) (4 : Int32) _ e6 mc6 ms6 hmc6 hms6) (va_cwS 5 hts (lw_S q1551 q1552 q115 q1553) rfl rfl rfl (by decide +kernel) ⟨Nat.le_of_ble_eq_true rfl, Nat.le_of_ble_eq_true rfl⟩) (h_preS hGr hr hS _) rfl rfl hl.1 rfl (lv_room (Nat.le_of_ble_eq_true rfl)) dJ15_hashCode_48 ⟨(bud hc mm6 hmc hms).1, (bud hc mm6 hmc hms).2⟩) hS (fun rr uu H locs hw hr hS => ?_)
      obtain rfl : u6 = uu := (congrArg Prod.snd hw).symm
      obtain rfl : r6 = rr := (congrArg Prod.fst hw).symm
      have bz := bud_r hc hF hmc hms
      refine W.widen (k := mc) (n := ms) bz.1 bz.2 ?_
      exact W.iret (v := r6) hx hb hret (fun t ht hWm => ⟨⟨r6, u6, rfl, Option.some.inj hF, h_end hGr hr hS ht hWm⟩, hS.F ht⟩) hS.2.2 dJ15_hashCode_51

def GJ9_hashCode (n : Nat) (h : Hp) (a0 : Nat) : Option (Int32 × Hp) := gI h a0 13 2 (fun x1_ => if x1_ = 0 then gI h a0 13 3 (fun x3_ => if x3_ = 0 then gC h a0 13 (bnd (GJ9_isLatin1 h a0) (fun r5 u5 => if r5 = 0 then none else gQ u5 a0 13 0 (fun x7_ => bnd (GJ15_hashCode n u5 x7_) (fun r8 u8 => if r8 = 0 then pV u8 a0 13 3 (.int 1) (fun h11 => some (r8, h11)) else pV u8 a0 13 2 (.int r8) (fun h10 => some (r8, h10)))))) else some (x1_, h)) else some (x1_, h))
theorem moJ9_hashCode (n : Nat) (h : Hp) (a0 : Nat) : Mo h (GJ9_hashCode n h a0) := by
  unfold GJ9_hashCode
  exact mo_gI (fun x1_ => mo_ite (mo_gI (fun x3_ => mo_ite (mo_gC (mo_bnd (moJ9_isLatin1 h a0) hle_rf (fun r5 u5 m5 => mo_ite (mo_no) (mo_gQ (fun x7_ => mo_bnd (moJ15_hashCode n u5 x7_) m5 (fun r8 u8 m8 => mo_ite (mo_pV m8 (fun h11 m11 => mo_ret m11)) (mo_pV m8 (fun h10 m10 => mo_ret m10)))))))) (mo_ret hle_rf))) (mo_ret hle_rf))
set_option maxHeartbeats 4000000 in
set_option maxRecDepth 100000 in
theorem mgJ9_hashCode (l : Launch) (D : HD) (A : Nat → Prop) (h : Hp) (n : Nat) (a0 : Nat) (out : Int32 × Hp) (hF : GJ9_hashCode n h a0 = some out) (mc ms : Nat) (hmc : hCc out.2 = hCc h + mc) (hms : hSl out.2 = hSl h + ms) : Met l yJ9_hashCode (ws_ yJ9_hashCode cJ9_hashCode 2 (some .int)) ({ frames := 3, cells := mc, slots := ms, locals := 69 }) (va_Pc [.ref a0] (hW D A h)) (va_Qi (fun r u => (r, u) = out) (hW D A) A) mc ms A := by
  refine va_MetF (cc := cJ9_hashCode) (maxL := 2) (ret := (some .int)) (by decide +kernel) rfl ?_
  intro p e s m args below meth c s₁ B hml hv
  obtain ⟨rfl, hr, hGr⟩ := hv
  have hx := B.exec
  have hb := B.bytes
  have hret := B.returns
  have hts := atoms_spec (ws := (ws_ yJ9_hashCode cJ9_hashCode 2 (some .int))) B.pre
  have hts : ∀ w ∈ lw_all, w.before _ s = true := fun w h => hts w (List.mem_cons_of_mem _ h)
  have hown : s.vm.findClass RJ9 = some m.cls := findClass_of_methodNamed B.named
  have hlocks := B.notSynchronized
  have hS : va_S A s.heap s.heap [] := va_S.rf
  have hc : cst h 0 0 h := cst_0
  have hl := lv_entry ([.ref a0]) (n := 2) (Nat.le_of_ble_eq_true rfl)
  rw [lg_entry_eq]
  generalize (lg_sl ([.ref a0]) ++ List.replicate (2 - (lg_sl ([.ref a0])).length) Slot.unset).toArray = ls at hl ⊢
  have hl : lv_has ls 2 [(0, .ref a0)] := hl
  unfold GJ9_hashCode at hF
  refine lv_aload_n hx hb dJ9_hashCode_0 rfl (lv_at hl 0 rfl) ?_
  obtain ⟨fs1, x1_, e1, f1, hF⟩ := gI_s hF
  refine h_get (C := RJ9) (T := TJ9) (N := 4) hx hb hts in_J9 hown hGr hr e1 (by decide) rfl 2 (by decide) (hts _ q523) (fun _ h9 => h9) f1 dJ9_hashCode_1 ?_
  refine lv_istore_n (lv' := [(1, .int x1_), (0, .ref a0)]) hx hb dJ9_hashCode_4 rfl hl (by decide) rfl (fun ls hl => ?_)
  refine lv_iload_n hx hb dJ9_hashCode_5 rfl (lv_at hl 0 rfl) ?_
  refine lv_if_ne (tgt := 58) hx hb dJ9_hashCode_6 (by decide) (fun c2 => ?_) (fun c2 => ?_)
  · replace hF := it_f c2 hF
    refine lv_iload_n hx hb dJ9_hashCode_58 rfl (lv_at hl 0 rfl) ?_
    have bz := bud_r hc hF hmc hms
    refine W.widen (k := mc) (n := ms) bz.1 bz.2 ?_
    exact W.iret (v := x1_) hx hb hret (fun t ht hWm => ⟨⟨x1_, h, rfl, Option.some.inj hF, h_end hGr hr hS ht hWm⟩, hS.F ht⟩) hS.2.2 dJ9_hashCode_59
  · replace hF := it_t c2 hF
    refine lv_aload_n hx hb dJ9_hashCode_9 rfl (lv_at hl 1 rfl) ?_
    obtain ⟨fs3, x3_, e3, f3, hF⟩ := gI_s hF
    refine h_get (C := RJ9) (T := TJ9) (N := 4) hx hb hts in_J9 hown hGr hr e3 (by decide) rfl 3 (by decide) (hts _ q524) (fun _ h9 => h9) f3 dJ9_hashCode_10 ?_
    refine lv_if_ne (tgt := 58) hx hb dJ9_hashCode_13 (by decide) (fun c4 => ?_) (fun c4 => ?_)
    · replace hF := it_f c4 hF
      refine lv_iload_n hx hb dJ9_hashCode_58 rfl (lv_at hl 0 rfl) ?_
      have bz := bud_r hc hF hmc hms
      refine W.widen (k := mc) (n := ms) bz.1 bz.2 ?_
      exact W.iret (v := x1_) hx hb hret (fun t ht hWm => ⟨⟨x1_, h, rfl, Option.some.inj hF, h_end hGr hr hS ht hWm⟩, hS.F ht⟩) hS.2.2 dJ9_hashCode_59
    · replace hF := it_t c4 hF
      refine lv_aload_n hx hb dJ9_hashCode_16 rfl (lv_at hl 1 rfl) ?_
      obtain ⟨fc5, ec5, hF⟩ := gC_s hF
      obtain ⟨r5, u5, e5, hF⟩ := bnd_s hF
      have mm5 : hle u5 out.2 := (show Mo u5 _ from mo_ite (mo_no) (mo_gQ (fun x7_ => mo_bnd (moJ15_hashCode n u5 x7_) hle_rf (fun r8 u8 m8 => mo_ite (mo_pV m8 (fun h11 m11 => mo_ret m11)) (mo_pV m8 (fun h10 m10 => mo_ret m10)))))) _ hF
      obtain ⟨mc5, ms5, hmc5, hms5⟩ := up_of (moJ9_isLatin1 h a0 _ e5)
      replace hc := cst_call hc hmc5 hms5
      refine h_calli (va_runV (As := []) (rest := []) ⟨hx, hb, hml, hown, hts⟩ (mgJ9_isLatin1 l D A h a0 _ e5 mc5 ms5 hmc5 hms5) (cwV 0 hts (lw_V q1306 q1307 q1308 q113 q1309) rfl rfl rfl (by decide +kernel) ⟨Nat.le_of_ble_eq_true rfl, Nat.le_of_ble_eq_true rfl⟩) (h_preV hGr hr hS ec5 (by decide) (q := (RJ9, TJ9, 4)) rfl _) rfl rfl hl.1 rfl (lv_room (Nat.le_of_ble_eq_true rfl)) dJ9_hashCode_17 ⟨(bud hc mm5 hmc hms).1, (bud hc mm5 hmc hms).2⟩) hS (fun rr uu H locs hw hr hS => ?_)
      obtain rfl : u5 = uu := (congrArg Prod.snd hw).symm
      obtain rfl : r5 = rr := (congrArg Prod.fst hw).symm
      refine lv_if_eq (tgt := 33) hx hb dJ9_hashCode_20 (by decide) (fun c6 => ?_) (fun c6 => ?_)
      · replace hF := it_t c6 hF
        exact nomatch hF
      · replace hF := it_f c6 hF
        refine lv_aload_n hx hb dJ9_hashCode_23 rfl (lv_at hl 1 rfl) ?_
        obtain ⟨fs7, x7_, e7, f7, hF⟩ := gQ_s hF
        refine h_get (C := RJ9) (T := TJ9) (N := 4) hx hb hts in_J9 hown hGr hr e7 (by decide) rfl 0 (by decide) (hts _ q521) (fun _ h9 => h9) f7 dJ9_hashCode_24 ?_
        obtain ⟨r8, u8, e8, hF⟩ := bnd_s hF
        have mm8 : hle u8 out.2 := (show Mo u8 _ from mo_ite (mo_pV hle_rf (fun h11 m11 => mo_ret m11)) (mo_pV hle_rf (fun h10 m10 => mo_ret m10))) _ hF
        obtain ⟨mc8, ms8, hmc8, hms8⟩ := up_of (moJ15_hashCode n u5 x7_ _ e8)
        replace hc := cst_call hc hmc8 hms8
        refine h_calli (va_runS (As := [.ref x7_]) (rest := []) ⟨hx, hb, hml, hown, hts⟩ (mgJ15_hashCode l D A u5 n x7_ _ e8 mc8 ms8 hmc8 hms8) (va_cwS 1 hts (lw_S q1548 q1549 q120 q1550) rfl rfl rfl (by decide +kernel) ⟨Nat.le_of_ble_eq_true rfl, Nat.le_of_ble_eq_true rfl⟩) (h_preS hGr hr hS _) rfl rfl hl.1 rfl (lv_room (Nat.le_of_ble_eq_true rfl)) dJ9_hashCode_27 ⟨(bud hc mm8 hmc hms).1, (bud hc mm8 hmc hms).2⟩) hS (fun rr uu H locs hw hr hS => ?_)
        obtain rfl : u8 = uu := (congrArg Prod.snd hw).symm
        obtain rfl : r8 = rr := (congrArg Prod.fst hw).symm
        refine lv_goto (tgt := 40) hx hb dJ9_hashCode_30 (by decide) ?_
        refine lv_istore_n (lv' := [(1, .int r8), (0, .ref a0)]) hx hb dJ9_hashCode_40 rfl hl (by decide) rfl (fun ls hl => ?_)
        refine lv_iload_n hx hb dJ9_hashCode_41 rfl (lv_at hl 0 rfl) ?_
        refine lv_if_ne (tgt := 53) hx hb dJ9_hashCode_42 (by decide) (fun c9 => ?_) (fun c9 => ?_)
        · replace hF := it_f c9 hF
          refine lv_aload_n hx hb dJ9_hashCode_53 rfl (lv_at hl 1 rfl) ?_
          refine lv_iload_n hx hb dJ9_hashCode_54 rfl (lv_at hl 0 rfl) ?_
          obtain ⟨fs10, e10, k10, lo10, hF⟩ := pV_s hF
          obtain ⟨h10, eh10⟩ : ∃ z, z = hPut u8 a0 (.inr (13, fs10.set 2 (.int r8))) := ⟨_, rfl⟩
          rw [← eh10] at hF
          refine h_put (C := RJ9) (T := TJ9) (N := 4) hx hb hts in_J9 tyJ9 tyJ9_ok nmJ9 hown hGr hr hS e10 (by decide) rfl 2 (by decide) (hts _ q523) (fun _ h9 => h9) rfl (tyJ9_ok 2 (by decide)) rfl rfl k10 lo10 dJ9_hashCode_55 (fun H locs hr hS => ?_)
          rw [← eh10] at hr
          replace hc := cst_put hc eh10
          refine lv_iload_n hx hb dJ9_hashCode_58 rfl (lv_at hl 0 rfl) ?_
          have bz := bud_r hc hF hmc hms
          refine W.widen (k := mc) (n := ms) bz.1 bz.2 ?_
          exact W.iret (v := r8) hx hb hret (fun t ht hWm => ⟨⟨r8, h10, rfl, Option.some.inj hF, h_end hGr hr hS ht hWm⟩, hS.F ht⟩) hS.2.2 dJ9_hashCode_59
        · replace hF := it_t c9 hF
          refine lv_aload_n hx hb dJ9_hashCode_45 rfl (lv_at hl 1 rfl) ?_
          refine lv_iconst (v := 1) hx hb dJ9_hashCode_46 (by decide) ?_
          obtain ⟨fs11, e11, k11, lo11, hF⟩ := pV_s hF
          obtain ⟨h11, eh11⟩ : ∃ z, z = hPut u8 a0 (.inr (13, fs11.set 3 (.int 1))) := ⟨_, rfl⟩
          rw [← eh11] at hF
          refine h_put (C := RJ9) (T := TJ9) (N := 4) hx hb hts in_J9 tyJ9 tyJ9_ok nmJ9 hown hGr hr hS e11 (by decide) rfl 3 (by decide) (hts _ q524) (fun _ h9 => h9) rfl (tyJ9_ok 3 (by decide)) rfl rfl k11 lo11 dJ9_hashCode_47 (fun H locs hr hS => ?_)
          rw [← eh11] at hr
          replace hc := cst_put hc eh11
          refine lv_goto (tgt := 58) hx hb dJ9_hashCode_50 (by decide) ?_
          refine lv_iload_n hx hb dJ9_hashCode_58 rfl (lv_at hl 0 rfl) ?_
          have bz := bud_r hc hF hmc hms
          refine W.widen (k := mc) (n := ms) bz.1 bz.2 ?_
          exact W.iret (v := r8) hx hb hret (fun t ht hWm => ⟨⟨r8, h11, rfl, Option.some.inj hF, h_end hGr hr hS ht hWm⟩, hS.F ht⟩) hS.2.2 dJ9_hashCode_59

def GJ13_checkLength (h : Hp) (p0 : Int32) (p1 : Int32) : Option (Int32 × Hp) := if p0 ≤ p1 then some (0, h) else none
theorem moJ13_checkLength (h : Hp) (p0 : Int32) (p1 : Int32) : Mo h (GJ13_checkLength h p0 p1) := by
  unfold GJ13_checkLength
  exact mo_ite (mo_ret hle_rf) (mo_no)
set_option maxHeartbeats 4000000 in
set_option maxRecDepth 100000 in
theorem mgJ13_checkLength (l : Launch) (D : HD) (A : Nat → Prop) (h : Hp) (p0 : Int32) (p1 : Int32) (out : Int32 × Hp) (hF : GJ13_checkLength h p0 p1 = some out) (mc ms : Nat) (hmc : hCc out.2 = hCc h + mc) (hms : hSl out.2 = hSl h + ms) : Met l yJ13_checkLength (ws_ yJ13_checkLength cJ13_checkLength 2 none) ({ frames := 0, cells := mc, slots := ms, locals := 0 }) (va_Pc [.int p0, .int p1] (hW D A h)) (va_Qv (fun u => (0, u) = out) (hW D A) A) mc ms A := by
  refine va_MetF (cc := cJ13_checkLength) (maxL := 2) (ret := none) (by decide +kernel) rfl ?_
  intro p e s m args below meth c s₁ B hml hv
  obtain ⟨rfl, hr, hGr⟩ := hv
  have hx := B.exec
  have hb := B.bytes
  have hret := B.returns
  have hts := atoms_spec (ws := (ws_ yJ13_checkLength cJ13_checkLength 2 none)) B.pre
  have hts : ∀ w ∈ lw_all, w.before _ s = true := fun w h => hts w (List.mem_cons_of_mem _ h)
  have hown : s.vm.findClass RJ13 = some m.cls := findClass_of_methodNamed B.named
  have hlocks := B.notSynchronized
  have hS : va_S A s.heap s.heap [] := va_S.rf
  have hc : cst h 0 0 h := cst_0
  have hl := lv_entry ([.int p0, .int p1]) (n := 2) (Nat.le_of_ble_eq_true rfl)
  rw [lg_entry_eq]
  generalize (lg_sl ([.int p0, .int p1]) ++ List.replicate (2 - (lg_sl ([.int p0, .int p1])).length) Slot.unset).toArray = ls at hl ⊢
  have hl : lv_has ls 2 [(0, .int p0), (1, .int p1)] := hl
  unfold GJ13_checkLength at hF
  refine lv_iload_n hx hb dJ13_checkLength_0 rfl (lv_at hl 1 rfl) ?_
  refine lv_iload_n hx hb dJ13_checkLength_1 rfl (lv_at hl 0 rfl) ?_
  refine lv_icmp_ge (tgt := 37) hx hb dJ13_checkLength_2 (by decide) (fun c1 => ?_) (fun c1 => ?_)
  · replace hF := it_t c1 hF
    have bz := bud_r hc hF hmc hms
    refine W.widen (k := mc) (n := ms) bz.1 bz.2 ?_
    exact W.vret hx hb hret (fun t ht hWm => ⟨⟨h, rfl, Option.some.inj hF, h_end hGr hr hS ht hWm⟩, hS.F ht⟩) hS.2.2 dJ13_checkLength_37
  · replace hF := it_f c1 hF
    exact nomatch hF

def GJ13_copyOfRangeByte (h : Hp) (a0 : Nat) (p1 : Int32) (p2 : Int32) : Option (Nat × Hp) := bnd (GJ13_checkLength h p1 p2) (fun r1 u1 => nA u1 1 (p2 - p1) (fun a2_ h2 => aL h2 a0 (fun x3_ => cI h2 1 a0 p1 a2_ (0 : Int32) (if (p2 - p1) < (x3_ - p1) then (p2 - p1) else (x3_ - p1)) (fun h5 => some (a2_, h5)))))
theorem moJ13_copyOfRangeByte (h : Hp) (a0 : Nat) (p1 : Int32) (p2 : Int32) : Mo h (GJ13_copyOfRangeByte h a0 p1 p2) := by
  unfold GJ13_copyOfRangeByte
  exact mo_bnd (moJ13_checkLength h p1 p2) hle_rf (fun r1 u1 m1 => mo_nA m1 (fun a2_ h2 m2 => mo_aL (fun x3_ => mo_cI m2 (fun h5 m5 => mo_ret m5))))
set_option maxHeartbeats 4000000 in
set_option maxRecDepth 100000 in
theorem mgJ13_copyOfRangeByte (l : Launch) (D : HD) (A : Nat → Prop) (h : Hp) (a0 : Nat) (p1 : Int32) (p2 : Int32) (out : Nat × Hp) (hF : GJ13_copyOfRangeByte h a0 p1 p2 = some out) (mc ms : Nat) (hmc : hCc out.2 = hCc h + mc) (hms : hSl out.2 = hSl h + ms) : Met l yJ13_copyOfRangeByte (ws_ yJ13_copyOfRangeByte cJ13_copyOfRangeByte 5 (some (.array .byte))) ({ frames := 1, cells := mc, slots := ms, locals := 80 }) (va_Pc [.ref a0, .int p1, .int p2] (hW D A h)) (va_Qr (fun _ : Hp => True) (fun u r t => (r, u) = out ∧ hW D A u t) A) mc ms A := by
  refine va_MetF (cc := cJ13_copyOfRangeByte) (maxL := 5) (ret := (some (.array .byte))) (by decide +kernel) rfl ?_
  intro p e s m args below meth c s₁ B hml hv
  obtain ⟨rfl, hr, hGr⟩ := hv
  have hx := B.exec
  have hb := B.bytes
  have hret := B.returns
  have hts := atoms_spec (ws := (ws_ yJ13_copyOfRangeByte cJ13_copyOfRangeByte 5 (some (.array .byte)))) B.pre
  have hts : ∀ w ∈ lw_all, w.before _ s = true := fun w h => hts w (List.mem_cons_of_mem _ h)
  have hown : s.vm.findClass RJ13 = some m.cls := findClass_of_methodNamed B.named
  have hlocks := B.notSynchronized
  have hS : va_S A s.heap s.heap [] := va_S.rf
  have hc : cst h 0 0 h := cst_0
  have hl := lv_entry ([.ref a0, .int p1, .int p2]) (n := 5) (Nat.le_of_ble_eq_true rfl)
  rw [lg_entry_eq]
  generalize (lg_sl ([.ref a0, .int p1, .int p2]) ++ List.replicate (5 - (lg_sl ([.ref a0, .int p1, .int p2])).length) Slot.unset).toArray = ls at hl ⊢
  have hl : lv_has ls 5 [(0, .ref a0), (1, .int p1), (2, .int p2)] := hl
  unfold GJ13_copyOfRangeByte at hF
  refine lv_iload_n hx hb dJ13_copyOfRangeByte_0 rfl (lv_at hl 1 rfl) ?_
  refine lv_iload_n hx hb dJ13_copyOfRangeByte_1 rfl (lv_at hl 2 rfl) ?_
  obtain ⟨r1, u1, e1, hF⟩ := bnd_s hF
  have mm1 : hle u1 out.2 := (show Mo u1 _ from mo_nA hle_rf (fun a2_ h2 m2 => mo_aL (fun x3_ => mo_cI m2 (fun h5 m5 => mo_ret m5)))) _ hF
  obtain ⟨mc1, ms1, hmc1, hms1⟩ := up_of (moJ13_checkLength h p1 p2 _ e1)
  replace hc := cst_call hc hmc1 hms1
  refine h_callv (va_runS (As := [.int p1, .int p2]) (rest := []) ⟨hx, hb, hml, hown, hts⟩ (mgJ13_checkLength l D A h p1 p2 _ e1 mc1 ms1 hmc1 hms1) (va_cwS 2 hts (lw_S q473 q474 q117 q475) rfl rfl rfl (by decide +kernel) ⟨Nat.le_of_ble_eq_true rfl, Nat.le_of_ble_eq_true rfl⟩) (h_preS hGr hr hS _) rfl rfl hl.1 rfl (lv_room (Nat.le_of_ble_eq_true rfl)) dJ13_copyOfRangeByte_2 ⟨(bud hc mm1 hmc hms).1, (bud hc mm1 hmc hms).2⟩) hS (fun uu H locs hw hr hS => ?_)
  obtain rfl : u1 = uu := (congrArg Prod.snd hw).symm
  refine lv_iload_n hx hb dJ13_copyOfRangeByte_5 rfl (lv_at hl 2 rfl) ?_
  refine lv_iload_n hx hb dJ13_copyOfRangeByte_6 rfl (lv_at hl 1 rfl) ?_
  refine lv_isub hx hb dJ13_copyOfRangeByte_7 ?_
  refine lv_istore_n (lv' := [(3, .int (p2 - p1)), (0, .ref a0), (1, .int p1), (2, .int p2)]) hx hb dJ13_copyOfRangeByte_8 rfl hl (by decide) rfl (fun ls hl => ?_)
  refine lv_iload_n hx hb dJ13_copyOfRangeByte_9 rfl (lv_at hl 0 rfl) ?_
  obtain ⟨a2_, h2, ea2, eh2, g2, hF⟩ := nA_s hF
  have mm2 : hle h2 out.2 := (show Mo h2 _ from mo_aL (fun x3_ => mo_cI hle_rf (fun h5 m5 => mo_ret m5))) _ hF
  replace hc := cst_new hc eh2
  refine h_newB hx hb (hts _ q293) hGr hr hS g2 (bud hc mm2 hmc hms).1 (bud hc mm2 hmc hms).2 dJ13_copyOfRangeByte_10 (fun H hr hS => ?_)
  rw [← eh2] at hr
  rw [← ea2]
  refine lv_astore (lv' := [(4, .ref a2_), (3, .int (p2 - p1)), (0, .ref a0), (1, .int p1), (2, .int p2)]) hx hb dJ13_copyOfRangeByte_12 hl (by decide) rfl (fun ls hl => ?_)
  refine lv_aload_n hx hb dJ13_copyOfRangeByte_14 rfl (lv_at hl 2 rfl) ?_
  refine lv_iload_n hx hb dJ13_copyOfRangeByte_15 rfl (lv_at hl 3 rfl) ?_
  refine lv_aload hx hb dJ13_copyOfRangeByte_16 (lv_at hl 0 rfl) ?_
  refine lv_iconst (v := 0) hx hb dJ13_copyOfRangeByte_18 (by decide) ?_
  refine lv_aload_n hx hb dJ13_copyOfRangeByte_19 rfl (lv_at hl 2 rfl) ?_
  obtain ⟨k3, y3, e3, g3, hF⟩ := aL_s hF
  obtain ⟨x3_, ex3⟩ : ∃ z, z = Int32.ofNat y3.1 := ⟨_, rfl⟩
  rw [← ex3] at hF
  refine h_alen hx hb hGr hr e3 g3 dJ13_copyOfRangeByte_20 ?_
  rw [← ex3]
  refine lv_iload_n hx hb dJ13_copyOfRangeByte_21 rfl (lv_at hl 3 rfl) ?_
  refine lv_isub hx hb dJ13_copyOfRangeByte_22 ?_
  refine lv_iload_n hx hb dJ13_copyOfRangeByte_23 rfl (lv_at hl 1 rfl) ?_
  have mm4 : hle h2 out.2 := (show Mo h2 _ from mo_cI hle_rf (fun h5 m5 => mo_ret m5)) _ hF
  refine va_mmin hx hb (by rw [hml]; exact hl.1.symm) hown (hts _ q335) (hts _ q336) (hts _ q116) (hts _ q337) (Nat.le_of_ble_eq_true rfl) (Nat.le_of_ble_eq_true rfl) (bud hc mm4 hmc hms).1 (bud hc mm4 hmc hms).2 dJ13_copyOfRangeByte_24 ?_
  obtain ⟨n5, f5, nn5, g5, ea5, e5, lo5, cp5, ft5, hF⟩ := cI_s hF
  obtain ⟨h5, eh5⟩ : ∃ z, z = hPut h2 a2_ (.inl (1, nn5, .inl (va_cpy f5 g5 (p1).toNatClampNeg ((0 : Int32)).toNatClampNeg ((if (p2 - p1) < (x3_ - p1) then (p2 - p1) else (x3_ - p1))).toNatClampNeg))) := ⟨_, rfl⟩
  rw [← eh5] at hF
  refine h_copyi hx hb (by rw [hml]; exact hl.1.symm) hown (hts _ q338) (hts _ q340) (hts _ q339) (hts _ q118) hGr hr hS 1 (by decide) ea5 e5 lo5 cp5 ft5 (Nat.le_of_ble_eq_true rfl) (Nat.le_of_ble_eq_true rfl) dJ13_copyOfRangeByte_27 (fun H locs hr hS => ?_)
  rw [← eh5] at hr
  replace hc := cst_put hc eh5
  refine lv_aload hx hb dJ13_copyOfRangeByte_30 (lv_at hl 0 rfl) ?_
  have bz := bud_r hc hF hmc hms
  refine W.widen (k := mc) (n := ms) bz.1 bz.2 ?_
  exact W.aret (v := .ref a2_) hx hb hret (Or.inr ⟨_, rfl⟩) (Or.inr ⟨_, rfl⟩) (fun t ht hWm => ⟨⟨h5, a2_, rfl, trivial, Option.some.inj hF, h_end hGr hr hS ht hWm⟩, hS.F ht⟩) hS.2.2 dJ13_copyOfRangeByte_32

def GJ13_copyOfRange (h : Hp) (a0 : Nat) (p1 : Int32) (p2 : Int32) : Option (Nat × Hp) := if p1 = 0 then aL h a0 (fun x3_ => if p2 = x3_ then kA h 1 a0 (fun a5_ h5 => gA h5 a5_ 1 (some (a5_, h5))) else bnd (GJ13_copyOfRangeByte h a0 p1 p2) (fun r7 u7 => some (r7, u7))) else bnd (GJ13_copyOfRangeByte h a0 p1 p2) (fun r2 u2 => some (r2, u2))
theorem moJ13_copyOfRange (h : Hp) (a0 : Nat) (p1 : Int32) (p2 : Int32) : Mo h (GJ13_copyOfRange h a0 p1 p2) := by
  unfold GJ13_copyOfRange
  exact mo_ite (mo_aL (fun x3_ => mo_ite (mo_kA hle_rf (fun a5_ h5 m5 => mo_gA (mo_ret m5))) (mo_bnd (moJ13_copyOfRangeByte h a0 p1 p2) hle_rf (fun r7 u7 m7 => mo_ret m7)))) (mo_bnd (moJ13_copyOfRangeByte h a0 p1 p2) hle_rf (fun r2 u2 m2 => mo_ret m2))
set_option maxHeartbeats 4000000 in
set_option maxRecDepth 100000 in
theorem mgJ13_copyOfRange (l : Launch) (D : HD) (A : Nat → Prop) (h : Hp) (a0 : Nat) (p1 : Int32) (p2 : Int32) (out : Nat × Hp) (hF : GJ13_copyOfRange h a0 p1 p2 = some out) (mc ms : Nat) (hmc : hCc out.2 = hCc h + mc) (hms : hSl out.2 = hSl h + ms) : Met l yJ13_copyOfRange (ws_ yJ13_copyOfRange cJ13_copyOfRange 3 (some (.array .byte))) ({ frames := 2, cells := mc, slots := ms, locals := 104 }) (va_Pc [.ref a0, .int p1, .int p2] (hW D A h)) (va_Qr (fun _ : Hp => True) (fun u r t => (r, u) = out ∧ hW D A u t) A) mc ms A := by
  refine va_MetF (cc := cJ13_copyOfRange) (maxL := 3) (ret := (some (.array .byte))) (by decide +kernel) rfl ?_
  intro p e s m args below meth c s₁ B hml hv
  obtain ⟨rfl, hr, hGr⟩ := hv
  have hx := B.exec
  have hb := B.bytes
  have hret := B.returns
  have hts := atoms_spec (ws := (ws_ yJ13_copyOfRange cJ13_copyOfRange 3 (some (.array .byte)))) B.pre
  have hts : ∀ w ∈ lw_all, w.before _ s = true := fun w h => hts w (List.mem_cons_of_mem _ h)
  have hown : s.vm.findClass RJ13 = some m.cls := findClass_of_methodNamed B.named
  have hlocks := B.notSynchronized
  have hS : va_S A s.heap s.heap [] := va_S.rf
  have hc : cst h 0 0 h := cst_0
  have hl := lv_entry ([.ref a0, .int p1, .int p2]) (n := 3) (Nat.le_of_ble_eq_true rfl)
  rw [lg_entry_eq]
  generalize (lg_sl ([.ref a0, .int p1, .int p2]) ++ List.replicate (3 - (lg_sl ([.ref a0, .int p1, .int p2])).length) Slot.unset).toArray = ls at hl ⊢
  have hl : lv_has ls 3 [(0, .ref a0), (1, .int p1), (2, .int p2)] := hl
  unfold GJ13_copyOfRange at hF
  refine lv_iload_n hx hb dJ13_copyOfRange_0 rfl (lv_at hl 1 rfl) ?_
  refine lv_if_ne (tgt := 10) hx hb dJ13_copyOfRange_1 (by decide) (fun c1 => ?_) (fun c1 => ?_)
  · replace hF := it_f c1 hF
    refine lv_aload_n hx hb dJ13_copyOfRange_10 rfl (lv_at hl 0 rfl) ?_
    refine lv_iload_n hx hb dJ13_copyOfRange_11 rfl (lv_at hl 1 rfl) ?_
    refine lv_iload_n hx hb dJ13_copyOfRange_12 rfl (lv_at hl 2 rfl) ?_
    obtain ⟨r2, u2, e2, hF⟩ := bnd_s hF
    have mm2 : hle u2 out.2 := (show Mo u2 _ from mo_ret hle_rf) _ hF
    obtain ⟨mc2, ms2, hmc2, hms2⟩ := up_of (moJ13_copyOfRangeByte h a0 p1 p2 _ e2)
    replace hc := cst_call hc hmc2 hms2
    refine h_callr (va_runS (As := [.ref a0, .int p1, .int p2]) (rest := []) ⟨hx, hb, hml, hown, hts⟩ (mgJ13_copyOfRangeByte l D A h a0 p1 p2 _ e2 mc2 ms2 hmc2 hms2) (va_cwS 3 hts (lw_S q470 q471 q117 q472) rfl rfl rfl (by decide +kernel) ⟨Nat.le_of_ble_eq_true rfl, Nat.le_of_ble_eq_true rfl⟩) (h_preS hGr hr hS _) rfl rfl hl.1 rfl (lv_room (Nat.le_of_ble_eq_true rfl)) dJ13_copyOfRange_13 ⟨(bud hc mm2 hmc hms).1, (bud hc mm2 hmc hms).2⟩) hS (fun rr uu H locs hw hr hS => ?_)
    obtain rfl : u2 = uu := (congrArg Prod.snd hw).symm
    obtain rfl : r2 = rr := (congrArg Prod.fst hw).symm
    have bz := bud_r hc hF hmc hms
    refine W.widen (k := mc) (n := ms) bz.1 bz.2 ?_
    exact W.aret (v := .ref r2) hx hb hret (Or.inr ⟨_, rfl⟩) (Or.inr ⟨_, rfl⟩) (fun t ht hWm => ⟨⟨u2, r2, rfl, trivial, Option.some.inj hF, h_end hGr hr hS ht hWm⟩, hS.F ht⟩) hS.2.2 dJ13_copyOfRange_16
  · replace hF := it_t c1 hF
    refine lv_iload_n hx hb dJ13_copyOfRange_4 rfl (lv_at hl 2 rfl) ?_
    refine lv_aload_n hx hb dJ13_copyOfRange_5 rfl (lv_at hl 0 rfl) ?_
    obtain ⟨k3, y3, e3, g3, hF⟩ := aL_s hF
    obtain ⟨x3_, ex3⟩ : ∃ z, z = Int32.ofNat y3.1 := ⟨_, rfl⟩
    rw [← ex3] at hF
    refine h_alen hx hb hGr hr e3 g3 dJ13_copyOfRange_6 ?_
    rw [← ex3]
    refine lv_icmp_eq (tgt := 17) hx hb dJ13_copyOfRange_7 (by decide) (fun c4 => ?_) (fun c4 => ?_)
    · replace hF := it_t c4 hF
      refine lv_aload_n hx hb dJ13_copyOfRange_17 rfl (lv_at hl 0 rfl) ?_
      obtain ⟨n5, f5, a5_, h5, e5, ft5, ea5, eh5, hF⟩ := kA_s hF
      have mm5 : hle h5 out.2 := (show Mo h5 _ from mo_gA (mo_ret hle_rf)) _ hF
      replace hc := cst_new hc eh5
      refine h_clone hx hb (by rw [hml]; exact hl.1.symm) hown (hts _ q328) (hts _ q329) (hts _ q330) (hts _ q331) (hts _ q332) (hGr.nw q333 rfl) hGr hr hS 1 (by decide) e5 ft5 (h_nmB hGr) (Nat.le_of_ble_eq_true rfl) (Nat.le_of_ble_eq_true rfl) (bud hc mm5 hmc hms).1 (bud hc mm5 hmc hms).2 dJ13_copyOfRange_18 (fun H hr hS => ?_)
      rw [← eh5] at hr
      rw [← ea5]
      obtain ⟨y6, e6, hF⟩ := gA_s hF
      refine h_castA hx hb hown (hts _ q334) hr e6 (h_nmB hGr) dJ13_copyOfRange_21 ?_
      have bz := bud_r hc hF hmc hms
      refine W.widen (k := mc) (n := ms) bz.1 bz.2 ?_
      exact W.aret (v := .ref a5_) hx hb hret (Or.inr ⟨_, rfl⟩) (Or.inr ⟨_, rfl⟩) (fun t ht hWm => ⟨⟨h5, a5_, rfl, trivial, Option.some.inj hF, h_end hGr hr hS ht hWm⟩, hS.F ht⟩) hS.2.2 dJ13_copyOfRange_24
    · replace hF := it_f c4 hF
      refine lv_aload_n hx hb dJ13_copyOfRange_10 rfl (lv_at hl 0 rfl) ?_
      refine lv_iload_n hx hb dJ13_copyOfRange_11 rfl (lv_at hl 1 rfl) ?_
      refine lv_iload_n hx hb dJ13_copyOfRange_12 rfl (lv_at hl 2 rfl) ?_
      obtain ⟨r7, u7, e7, hF⟩ := bnd_s hF
      have mm7 : hle u7 out.2 := (show Mo u7 _ from mo_ret hle_rf) _ hF
      obtain ⟨mc7, ms7, hmc7, hms7⟩ := up_of (moJ13_copyOfRangeByte h a0 p1 p2 _ e7)
      replace hc := cst_call hc hmc7 hms7
      refine h_callr (va_runS (As := [.ref a0, .int p1, .int p2]) (rest := []) ⟨hx, hb, hml, hown, hts⟩ (mgJ13_copyOfRangeByte l D A h a0 p1 p2 _ e7 mc7 ms7 hmc7 hms7) (va_cwS 3 hts (lw_S q470 q471 q117 q472) rfl rfl rfl (by decide +kernel) ⟨Nat.le_of_ble_eq_true rfl, Nat.le_of_ble_eq_true rfl⟩) (h_preS hGr hr hS _) rfl rfl hl.1 rfl (lv_room (Nat.le_of_ble_eq_true rfl)) dJ13_copyOfRange_13 ⟨(bud hc mm7 hmc hms).1, (bud hc mm7 hmc hms).2⟩) hS (fun rr uu H locs hw hr hS => ?_)
      obtain rfl : u7 = uu := (congrArg Prod.snd hw).symm
      obtain rfl : r7 = rr := (congrArg Prod.fst hw).symm
      have bz := bud_r hc hF hmc hms
      refine W.widen (k := mc) (n := ms) bz.1 bz.2 ?_
      exact W.aret (v := .ref r7) hx hb hret (Or.inr ⟨_, rfl⟩) (Or.inr ⟨_, rfl⟩) (fun t ht hWm => ⟨⟨u7, r7, rfl, trivial, Option.some.inj hF, h_end hGr hr hS ht hWm⟩, hS.F ht⟩) hS.2.2 dJ13_copyOfRange_16

def GJ9_init_2 (h : Hp) (a0 : Nat) (a1 : Nat) : Option (Int32 × Hp) := gC h a1 12 (bnd (GJ7_getValue h a1) (fun r1 u1 => gC u1 a1 12 (bnd (GJ8_length u1 a1) (fun r2 u2 => gC u2 a1 12 (bnd (GJ7_isLatin1 u2 a1) (fun r3 u3 => if r3 = 0 then none else pV u3 a0 13 1 (.int 0) (fun h5 => bnd (GJ13_copyOfRange h5 r1 (0 : Int32) r2) (fun r6 u6 => pV u6 a0 13 0 (.ref r6) (fun h7 => some (0, h7))))))))))
theorem moJ9_init_2 (h : Hp) (a0 : Nat) (a1 : Nat) : Mo h (GJ9_init_2 h a0 a1) := by
  unfold GJ9_init_2
  exact mo_gC (mo_bnd (moJ7_getValue h a1) hle_rf (fun r1 u1 m1 => mo_gC (mo_bnd (moJ8_length u1 a1) m1 (fun r2 u2 m2 => mo_gC (mo_bnd (moJ7_isLatin1 u2 a1) m2 (fun r3 u3 m3 => mo_ite (mo_no) (mo_pV m3 (fun h5 m5 => mo_bnd (moJ13_copyOfRange h5 r1 (0 : Int32) r2) m5 (fun r6 u6 m6 => mo_pV m6 (fun h7 m7 => mo_ret m7))))))))))
set_option maxHeartbeats 4000000 in
set_option maxRecDepth 100000 in
theorem mgJ9_init_2 (l : Launch) (D : HD) (A : Nat → Prop) (h : Hp) (a0 : Nat) (a1 : Nat) (out : Int32 × Hp) (hF : GJ9_init_2 h a0 a1 = some out) (mc ms : Nat) (hmc : hCc out.2 = hCc h + mc) (hms : hSl out.2 = hSl h + ms) : Met l yJ9_init_2 (ws_ yJ9_init_2 cJ9_init_2 5 none) ({ frames := 3, cells := mc, slots := ms, locals := 126 }) (va_Pc [.ref a0, .ref a1, .null] (hW D A h)) (va_Qv (fun u => (0, u) = out) (hW D A) A) mc ms A := by
  refine va_MetF (cc := cJ9_init_2) (maxL := 5) (ret := none) (by decide +kernel) rfl ?_
  intro p e s m args below meth c s₁ B hml hv
  obtain ⟨rfl, hr, hGr⟩ := hv
  have hx := B.exec
  have hb := B.bytes
  have hret := B.returns
  have hts := atoms_spec (ws := (ws_ yJ9_init_2 cJ9_init_2 5 none)) B.pre
  have hts : ∀ w ∈ lw_all, w.before _ s = true := fun w h => hts w (List.mem_cons_of_mem _ h)
  have hown : s.vm.findClass RJ9 = some m.cls := findClass_of_methodNamed B.named
  have hlocks := B.notSynchronized
  have hin : meth.name = "<init>" := (name_of_methodNamed B.named B.method).1
  have hS : va_S A s.heap s.heap [] := va_S.rf
  have hc : cst h 0 0 h := cst_0
  have hl := lv_entry ([.ref a0, .ref a1, .null]) (n := 5) (Nat.le_of_ble_eq_true rfl)
  rw [lg_entry_eq]
  generalize (lg_sl ([.ref a0, .ref a1, .null]) ++ List.replicate (5 - (lg_sl ([.ref a0, .ref a1, .null])).length) Slot.unset).toArray = ls at hl ⊢
  have hl : lv_has ls 5 [(0, .ref a0), (1, .ref a1), (2, .null)] := hl
  unfold GJ9_init_2 at hF
  refine lv_aload_n hx hb dJ9_init_2_0 rfl (lv_at hl 0 rfl) ?_
  refine W.objInit hx hb hown (hts _ q452) (hts _ q149) (hts _ q150) rfl (by rw [hml]; exact hl.1) rfl dJ9_init_2_1 (Nat.le_of_ble_eq_true rfl) (Nat.le_of_ble_eq_true rfl) ?_
  refine W.eq (g2 := F0 m 4 ls []) rfl ?_
  refine lv_aload_n hx hb dJ9_init_2_4 rfl (lv_at hl 1 rfl) ?_
  obtain ⟨fc1, ec1, hF⟩ := gC_s hF
  obtain ⟨r1, u1, e1, hF⟩ := bnd_s hF
  have mm1 : hle u1 out.2 := (show Mo u1 _ from mo_gC (mo_bnd (moJ8_length u1 a1) hle_rf (fun r2 u2 m2 => mo_gC (mo_bnd (moJ7_isLatin1 u2 a1) m2 (fun r3 u3 m3 => mo_ite (mo_no) (mo_pV m3 (fun h5 m5 => mo_bnd (moJ13_copyOfRange h5 r1 (0 : Int32) r2) m5 (fun r6 u6 m6 => mo_pV m6 (fun h7 m7 => mo_ret m7))))))))) _ hF
  obtain ⟨mc1, ms1, hmc1, hms1⟩ := up_of (moJ7_getValue h a1 _ e1)
  replace hc := cst_call hc hmc1 hms1
  refine h_callr (va_runU (C := RJ8) (owner := "java/lang/AbstractStringBuilder") (x := ⟨"java/lang/AbstractStringBuilder", "getValue", "()[B"⟩) (As := []) (rest := []) ⟨hx, hb, hml, hown, hts⟩ (mgJ7_getValue l D A h a1 _ e1 mc1 ms1 hmc1 hms1) (va_cwU 0 hts (lw_U q453 q455 q456 q454 q111 q457) rfl rfl rfl rfl (by decide +kernel) ⟨Nat.le_of_ble_eq_true rfl, Nat.le_of_ble_eq_true rfl⟩) (h_preV hGr hr hS ec1 (by decide) (q := (RJ8, TJ8, 4)) rfl _) rfl rfl hl.1 rfl (lv_room (Nat.le_of_ble_eq_true rfl)) dJ9_init_2_5 ⟨(bud hc mm1 hmc hms).1, (bud hc mm1 hmc hms).2⟩) hS (fun rr uu H locs hw hr hS => ?_)
  obtain rfl : u1 = uu := (congrArg Prod.snd hw).symm
  obtain rfl : r1 = rr := (congrArg Prod.fst hw).symm
  refine lv_astore_n (lv' := [(3, .ref r1), (0, .ref a0), (1, .ref a1), (2, .null)]) hx hb dJ9_init_2_8 rfl hl (by decide) rfl (fun ls hl => ?_)
  refine lv_aload_n hx hb dJ9_init_2_9 rfl (lv_at hl 2 rfl) ?_
  obtain ⟨fc2, ec2, hF⟩ := gC_s hF
  obtain ⟨r2, u2, e2, hF⟩ := bnd_s hF
  have mm2 : hle u2 out.2 := (show Mo u2 _ from mo_gC (mo_bnd (moJ7_isLatin1 u2 a1) hle_rf (fun r3 u3 m3 => mo_ite (mo_no) (mo_pV m3 (fun h5 m5 => mo_bnd (moJ13_copyOfRange h5 r1 (0 : Int32) r2) m5 (fun r6 u6 m6 => mo_pV m6 (fun h7 m7 => mo_ret m7))))))) _ hF
  obtain ⟨mc2, ms2, hmc2, hms2⟩ := up_of (moJ8_length u1 a1 _ e2)
  replace hc := cst_call hc hmc2 hms2
  refine h_calli (va_runU (C := RJ8) (owner := "java/lang/AbstractStringBuilder") (x := ⟨"java/lang/AbstractStringBuilder", "length", "()I"⟩) (As := []) (rest := []) ⟨hx, hb, hml, hown, hts⟩ (mgJ8_length l D A u1 a1 _ e2 mc2 ms2 hmc2 hms2) (va_cwO 0 hts (lw_O q458 q460 q459 q461 q462 q112 q463) rfl rfl rfl q465 (by decide +kernel) ⟨Nat.le_of_ble_eq_true rfl, Nat.le_of_ble_eq_true rfl⟩) (h_preV hGr hr hS ec2 (by decide) (q := (RJ8, TJ8, 4)) rfl _) rfl rfl hl.1 rfl (lv_room (Nat.le_of_ble_eq_true rfl)) dJ9_init_2_10 ⟨(bud hc mm2 hmc hms).1, (bud hc mm2 hmc hms).2⟩) hS (fun rr uu H locs hw hr hS => ?_)
  obtain rfl : u2 = uu := (congrArg Prod.snd hw).symm
  obtain rfl : r2 = rr := (congrArg Prod.fst hw).symm
  refine lv_istore (lv' := [(4, .int r2), (3, .ref r1), (0, .ref a0), (1, .ref a1), (2, .null)]) hx hb dJ9_init_2_13 hl (by decide) rfl (fun ls hl => ?_)
  refine lv_aload_n hx hb dJ9_init_2_15 rfl (lv_at hl 3 rfl) ?_
  obtain ⟨fc3, ec3, hF⟩ := gC_s hF
  obtain ⟨r3, u3, e3, hF⟩ := bnd_s hF
  have mm3 : hle u3 out.2 := (show Mo u3 _ from mo_ite (mo_no) (mo_pV hle_rf (fun h5 m5 => mo_bnd (moJ13_copyOfRange h5 r1 (0 : Int32) r2) m5 (fun r6 u6 m6 => mo_pV m6 (fun h7 m7 => mo_ret m7))))) _ hF
  obtain ⟨mc3, ms3, hmc3, hms3⟩ := up_of (moJ7_isLatin1 u2 a1 _ e3)
  replace hc := cst_call hc hmc3 hms3
  refine h_calli (va_runU (C := RJ8) (owner := "java/lang/AbstractStringBuilder") (x := ⟨"java/lang/AbstractStringBuilder", "isLatin1", "()Z"⟩) (As := []) (rest := []) ⟨hx, hb, hml, hown, hts⟩ (mgJ7_isLatin1 l D A u2 a1 _ e3 mc3 ms3 hmc3 hms3) (va_cwU 0 hts (lw_U q466 q343 q344 q342 q111 q345) rfl rfl rfl rfl (by decide +kernel) ⟨Nat.le_of_ble_eq_true rfl, Nat.le_of_ble_eq_true rfl⟩) (h_preV hGr hr hS ec3 (by decide) (q := (RJ8, TJ8, 4)) rfl _) rfl rfl hl.1 rfl (lv_room (Nat.le_of_ble_eq_true rfl)) dJ9_init_2_16 ⟨(bud hc mm3 hmc hms).1, (bud hc mm3 hmc hms).2⟩) hS (fun rr uu H locs hw hr hS => ?_)
  obtain rfl : u3 = uu := (congrArg Prod.snd hw).symm
  obtain rfl : r3 = rr := (congrArg Prod.fst hw).symm
  refine lv_if_eq (tgt := 41) hx hb dJ9_init_2_19 (by decide) (fun c4 => ?_) (fun c4 => ?_)
  · replace hF := it_t c4 hF
    exact nomatch hF
  · replace hF := it_f c4 hF
    refine lv_aload_n hx hb dJ9_init_2_22 rfl (lv_at hl 2 rfl) ?_
    refine lv_iconst (v := 0) hx hb dJ9_init_2_23 (by decide) ?_
    obtain ⟨fs5, e5, k5, lo5, hF⟩ := pV_s hF
    obtain ⟨h5, eh5⟩ : ∃ z, z = hPut u3 a0 (.inr (13, fs5.set 1 (.int 0))) := ⟨_, rfl⟩
    rw [← eh5] at hF
    refine h_putF (C := RJ9) (T := TJ9) (N := 4) hx hb hts in_J9 tyJ9 tyJ9_ok nmJ9 hown hGr hr hS e5 (by decide) rfl 1 (by decide) (hts _ q522) (fun _ h9 => h9) rfl hin rfl (tyJ9_ok 1 (by decide)) rfl rfl k5 lo5 dJ9_init_2_24 (fun H locs hr hS => ?_)
    rw [← eh5] at hr
    replace hc := cst_put hc eh5
    refine lv_aload_n hx hb dJ9_init_2_27 rfl (lv_at hl 2 rfl) ?_
    refine lv_aload_n hx hb dJ9_init_2_28 rfl (lv_at hl 1 rfl) ?_
    refine lv_iconst (v := 0) hx hb dJ9_init_2_29 (by decide) ?_
    refine lv_iload hx hb dJ9_init_2_30 (lv_at hl 0 rfl) ?_
    obtain ⟨r6, u6, e6, hF⟩ := bnd_s hF
    have mm6 : hle u6 out.2 := (show Mo u6 _ from mo_pV hle_rf (fun h7 m7 => mo_ret m7)) _ hF
    obtain ⟨mc6, ms6, hmc6, hms6⟩ := up_of (moJ13_copyOfRange h5 r1 (0 : Int32) r2 _ e6)
    replace hc := cst_call hc hmc6 hms6
    refine h_callr (va_runS (As := [.ref r1, .int 0, .int r2]) (rest := [.ref a0]) ⟨hx, hb, hml, hown, hts⟩ (mgJ13_copyOfRange l D A h5 r1 (0 : Int32) r2 _ e6 mc6 ms6 hmc6 hms6) (va_cwS 3 hts (lw_S q467 q468 q117 q469) rfl rfl rfl (by decide +kernel) ⟨Nat.le_of_ble_eq_true rfl, Nat.le_of_ble_eq_true rfl⟩) (h_preS hGr hr hS _) rfl rfl hl.1 rfl (lv_room (Nat.le_of_ble_eq_true rfl)) dJ9_init_2_32 ⟨(bud hc mm6 hmc hms).1, (bud hc mm6 hmc hms).2⟩) hS (fun rr uu H locs hw hr hS => ?_)
    obtain rfl : u6 = uu := (congrArg Prod.snd hw).symm
    obtain rfl : r6 = rr := (congrArg Prod.fst hw).symm
    obtain ⟨fs7, e7, k7, lo7, hF⟩ := pV_s hF
    obtain ⟨h7, eh7⟩ : ∃ z, z = hPut u6 a0 (.inr (13, fs7.set 0 (.ref r6))) := ⟨_, rfl⟩
    rw [← eh7] at hF
    refine h_putF (C := RJ9) (T := TJ9) (N := 4) hx hb hts in_J9 tyJ9 tyJ9_ok nmJ9 hown hGr hr hS e7 (by decide) rfl 0 (by decide) (hts _ q521) (fun _ h9 => h9) rfl hin rfl (tyJ9_ok 0 (by decide)) rfl rfl k7 lo7 dJ9_init_2_35 (fun H locs hr hS => ?_)
    rw [← eh7] at hr
    replace hc := cst_put hc eh7
    refine lv_goto (tgt := 97) hx hb dJ9_init_2_38 (by decide) ?_
    have bz := bud_r hc hF hmc hms
    refine W.widen (k := mc) (n := ms) bz.1 bz.2 ?_
    exact W.vret hx hb hret (fun t ht hWm => ⟨⟨h7, rfl, Option.some.inj hF, h_end hGr hr hS ht hWm⟩, hS.F ht⟩) hS.2.2 dJ9_init_2_97

def GJ9_init (h : Hp) (a0 : Nat) (a1 : Nat) : Option (Int32 × Hp) := bnd (GJ9_init_2 h a0 a1) (fun r1 u1 => some (0, u1))
theorem moJ9_init (h : Hp) (a0 : Nat) (a1 : Nat) : Mo h (GJ9_init h a0 a1) := by
  unfold GJ9_init
  exact mo_bnd (moJ9_init_2 h a0 a1) hle_rf (fun r1 u1 m1 => mo_ret m1)
set_option maxHeartbeats 4000000 in
set_option maxRecDepth 100000 in
theorem mgJ9_init (l : Launch) (D : HD) (A : Nat → Prop) (h : Hp) (a0 : Nat) (a1 : Nat) (out : Int32 × Hp) (hF : GJ9_init h a0 a1 = some out) (mc ms : Nat) (hmc : hCc out.2 = hCc h + mc) (hms : hSl out.2 = hSl h + ms) : Met l yJ9_init (ws_ yJ9_init cJ9_init 2 none) ({ frames := 4, cells := mc, slots := ms, locals := 150 }) (va_Pc [.ref a0, .ref a1] (hW D A h)) (va_Qv (fun u => (0, u) = out) (hW D A) A) mc ms A := by
  refine va_MetF (cc := cJ9_init) (maxL := 2) (ret := none) (by decide +kernel) rfl ?_
  intro p e s m args below meth c s₁ B hml hv
  obtain ⟨rfl, hr, hGr⟩ := hv
  have hx := B.exec
  have hb := B.bytes
  have hret := B.returns
  have hts := atoms_spec (ws := (ws_ yJ9_init cJ9_init 2 none)) B.pre
  have hts : ∀ w ∈ lw_all, w.before _ s = true := fun w h => hts w (List.mem_cons_of_mem _ h)
  have hown : s.vm.findClass RJ9 = some m.cls := findClass_of_methodNamed B.named
  have hlocks := B.notSynchronized
  have hin : meth.name = "<init>" := (name_of_methodNamed B.named B.method).1
  have hS : va_S A s.heap s.heap [] := va_S.rf
  have hc : cst h 0 0 h := cst_0
  have hl := lv_entry ([.ref a0, .ref a1]) (n := 2) (Nat.le_of_ble_eq_true rfl)
  rw [lg_entry_eq]
  generalize (lg_sl ([.ref a0, .ref a1]) ++ List.replicate (2 - (lg_sl ([.ref a0, .ref a1])).length) Slot.unset).toArray = ls at hl ⊢
  have hl : lv_has ls 2 [(0, .ref a0), (1, .ref a1)] := hl
  unfold GJ9_init at hF
  refine lv_aload_n hx hb dJ9_init_0 rfl (lv_at hl 0 rfl) ?_
  refine lv_aload_n hx hb dJ9_init_1 rfl (lv_at hl 1 rfl) ?_
  refine lv_null hx hb dJ9_init_2 ?_
  obtain ⟨r1, u1, e1, hF⟩ := bnd_s hF
  have mm1 : hle u1 out.2 := (show Mo u1 _ from mo_ret hle_rf) _ hF
  obtain ⟨mc1, ms1, hmc1, hms1⟩ := up_of (moJ9_init_2 h a0 a1 _ e1)
  replace hc := cst_call hc hmc1 hms1
  refine h_callv (va_runI (As := [.ref a1, .null]) (rest := []) ⟨hx, hb, hml, hown, hts⟩ (mgJ9_init_2 l D A h a0 a1 _ e1 mc1 ms1 hmc1 hms1) (cwI 2 hts (lw_meth q451) rfl rfl rfl (hts _ q113) (hts _ q449) (hts _ q450) rfl (by decide +kernel) ⟨Nat.le_of_ble_eq_true rfl, Nat.le_of_ble_eq_true rfl⟩) (h_preS hGr hr hS _) rfl rfl hl.1 rfl (lv_room (Nat.le_of_ble_eq_true rfl)) dJ9_init_3 ⟨(bud hc mm1 hmc hms).1, (bud hc mm1 hmc hms).2⟩) hS (fun uu H locs hw hr hS => ?_)
  obtain rfl : u1 = uu := (congrArg Prod.snd hw).symm
  have bz := bud_r hc hF hmc hms
  refine W.widen (k := mc) (n := ms) bz.1 bz.2 ?_
  exact W.vret hx hb hret (fun t ht hWm => ⟨⟨u1, rfl, Option.some.inj hF, h_end hGr hr hS ht hWm⟩, hS.F ht⟩) hS.2.2 dJ9_init_6

def GJ8_toString (h : Hp) (a0 : Nat) : Option (Nat × Hp) := nW h 13 [.null, .int 0, .int 0, .int 0] 4 (fun a1_ h1 => bnd (GJ9_init h1 a1_ a0) (fun r2 u2 => some (a1_, u2)))
theorem moJ8_toString (h : Hp) (a0 : Nat) : Mo h (GJ8_toString h a0) := by
  unfold GJ8_toString
  exact mo_nW hle_rf (fun a1_ h1 m1 => mo_bnd (moJ9_init h1 a1_ a0) m1 (fun r2 u2 m2 => mo_ret m2))
set_option maxHeartbeats 4000000 in
set_option maxRecDepth 100000 in
theorem mgJ8_toString (l : Launch) (D : HD) (A : Nat → Prop) (h : Hp) (a0 : Nat) (out : Nat × Hp) (hF : GJ8_toString h a0 = some out) (mc ms : Nat) (hmc : hCc out.2 = hCc h + mc) (hms : hSl out.2 = hSl h + ms) : Met l yJ8_toString (ws_ yJ8_toString cJ8_toString 1 (some (.object "java/lang/String"))) ({ frames := 5, cells := mc, slots := ms, locals := 171 }) (va_Pc [.ref a0] (hW D A h)) (va_Qr (fun _ : Hp => True) (fun u r t => (r, u) = out ∧ hW D A u t) A) mc ms A := by
  refine va_MetF (cc := cJ8_toString) (maxL := 1) (ret := (some (.object "java/lang/String"))) (by decide +kernel) rfl ?_
  intro p e s m args below meth c s₁ B hml hv
  obtain ⟨rfl, hr, hGr⟩ := hv
  have hx := B.exec
  have hb := B.bytes
  have hret := B.returns
  have hts := atoms_spec (ws := (ws_ yJ8_toString cJ8_toString 1 (some (.object "java/lang/String")))) B.pre
  have hts : ∀ w ∈ lw_all, w.before _ s = true := fun w h => hts w (List.mem_cons_of_mem _ h)
  have hown : s.vm.findClass RJ8 = some m.cls := findClass_of_methodNamed B.named
  have hlocks := B.notSynchronized
  have hS : va_S A s.heap s.heap [] := va_S.rf
  have hc : cst h 0 0 h := cst_0
  have hl := lv_entry ([.ref a0]) (n := 1) (Nat.le_of_ble_eq_true rfl)
  rw [lg_entry_eq]
  generalize (lg_sl ([.ref a0]) ++ List.replicate (1 - (lg_sl ([.ref a0])).length) Slot.unset).toArray = ls at hl ⊢
  have hl : lv_has ls 1 [(0, .ref a0)] := hl
  unfold GJ8_toString at hF
  obtain ⟨a1_, h1, ea1, eh1, hF⟩ := nW_s hF
  have mm1 : hle h1 out.2 := (show Mo h1 _ from mo_bnd (moJ9_init h1 a1_ a0) hle_rf (fun r2 u2 m2 => mo_ret m2)) _ hF
  replace hc := cst_new hc eh1
  refine h_new (C := RJ9) (T := TJ9) (N := 4) hx hb hts in_J9 tyJ9 tyJ9_ok hown (hts _ q444) (hts _ q445) (hts _ q113) hGr hr hS (ci := 13) (by decide) rfl (fs := [.null, .int 0, .int 0, .int 0]) (fun j hj => by match j, hj with | 0, _ => rfl | 1, _ => rfl | 2, _ => rfl | 3, _ => rfl | j + 4, hj => omega) (bud hc mm1 hmc hms).1 (bud hc mm1 hmc hms).2 dJ8_toString_0 (fun H hr hS => ?_)
  rw [← eh1] at hr
  rw [← ea1]
  refine lv_dup hx hb dJ8_toString_3 rfl ?_
  refine lv_aload_n hx hb dJ8_toString_4 rfl (lv_at hl 0 rfl) ?_
  obtain ⟨r2, u2, e2, hF⟩ := bnd_s hF
  have mm2 : hle u2 out.2 := (show Mo u2 _ from mo_ret hle_rf) _ hF
  obtain ⟨mc2, ms2, hmc2, hms2⟩ := up_of (moJ9_init h1 a1_ a0 _ e2)
  replace hc := cst_call hc hmc2 hms2
  refine h_callv (va_runI (As := [.ref a0]) (rest := [.ref a1_]) ⟨hx, hb, hml, hown, hts⟩ (mgJ9_init l D A h1 a1_ a0 _ e2 mc2 ms2 hmc2 hms2) (cwI 1 hts (lw_meth q448) rfl rfl rfl (hts _ q113) (hts _ q446) (hts _ q447) rfl (by decide +kernel) ⟨Nat.le_of_ble_eq_true rfl, Nat.le_of_ble_eq_true rfl⟩) (h_preS hGr hr hS _) rfl rfl hl.1 rfl (lv_room (Nat.le_of_ble_eq_true rfl)) dJ8_toString_5 ⟨(bud hc mm2 hmc hms).1, (bud hc mm2 hmc hms).2⟩) hS (fun uu H locs hw hr hS => ?_)
  obtain rfl : u2 = uu := (congrArg Prod.snd hw).symm
  have bz := bud_r hc hF hmc hms
  refine W.widen (k := mc) (n := ms) bz.1 bz.2 ?_
  exact W.aret (v := .ref a1_) hx hb hret (Or.inl ⟨_, rfl⟩) (Or.inr ⟨_, rfl⟩) (fun t ht hWm => ⟨⟨u2, a1_, rfl, trivial, Option.some.inj hF, h_end hGr hr hS ht hWm⟩, hS.F ht⟩) hS.2.2 dJ8_toString_8

def GJ3_init_3 (kz : Nat → Nat) (h : Hp) (a0 : Nat) (p3 : Int32) (p4 : Int32) : Option (Int32 × Hp) := pV h a0 6 0 (.ref a0) (fun h1 => pV h1 a0 6 1 (.ref (kz 303)) (fun h2 => pV h2 a0 6 2 (.ref (kz 304)) (fun h3 => if p4 = 0 then pV h3 a0 6 1 (.null) (fun h5 => pV h5 a0 6 3 (.null) (fun h6 => pV h6 a0 6 0 (.null) (fun h7 => if p3 = 0 then pV h7 a0 6 2 (.null) (fun h9 => some (0, h9)) else some (0, h7)))) else none)))
theorem moJ3_init_3 (kz : Nat → Nat) (h : Hp) (a0 : Nat) (p3 : Int32) (p4 : Int32) : Mo h (GJ3_init_3 kz h a0 p3 p4) := by
  unfold GJ3_init_3
  exact mo_pV hle_rf (fun h1 m1 => mo_pV m1 (fun h2 m2 => mo_pV m2 (fun h3 m3 => mo_ite (mo_pV m3 (fun h5 m5 => mo_pV m5 (fun h6 m6 => mo_pV m6 (fun h7 m7 => mo_ite (mo_pV m7 (fun h9 m9 => mo_ret m9)) (mo_ret m7))))) (mo_no))))
set_option maxHeartbeats 4000000 in
set_option maxRecDepth 100000 in
theorem mgJ3_init_3 (l : Launch) (D : HD) (A : Nat → Prop) (h : Hp) (a0 : Nat) (p3 : Int32) (p4 : Int32) (out : Int32 × Hp) (hF : GJ3_init_3 D.2 h a0 p3 p4 = some out) (mc ms : Nat) (hmc : hCc out.2 = hCc h + mc) (hms : hSl out.2 = hSl h + ms) : Met l yJ3_init_3 (ws_ yJ3_init_3 cJ3_init_3 5 none) ({ frames := 1, cells := mc, slots := ms, locals := 20 }) (va_Pc [.ref a0, .null, .null, .int p3, .int p4] (hW D A h)) (va_Qv (fun u => (0, u) = out) (hW D A) A) mc ms A := by
  refine va_MetF (cc := cJ3_init_3) (maxL := 5) (ret := none) (by decide +kernel) rfl ?_
  intro p e s m args below meth c s₁ B hml hv
  obtain ⟨rfl, hr, hGr⟩ := hv
  have hx := B.exec
  have hb := B.bytes
  have hret := B.returns
  have hts := atoms_spec (ws := (ws_ yJ3_init_3 cJ3_init_3 5 none)) B.pre
  have hts : ∀ w ∈ lw_all, w.before _ s = true := fun w h => hts w (List.mem_cons_of_mem _ h)
  have hown : s.vm.findClass RJ3 = some m.cls := findClass_of_methodNamed B.named
  have hlocks := B.notSynchronized
  have hin : meth.name = "<init>" := (name_of_methodNamed B.named B.method).1
  have hS : va_S A s.heap s.heap [] := va_S.rf
  have hc : cst h 0 0 h := cst_0
  have hl := lv_entry ([.ref a0, .null, .null, .int p3, .int p4]) (n := 5) (Nat.le_of_ble_eq_true rfl)
  rw [lg_entry_eq]
  generalize (lg_sl ([.ref a0, .null, .null, .int p3, .int p4]) ++ List.replicate (5 - (lg_sl ([.ref a0, .null, .null, .int p3, .int p4])).length) Slot.unset).toArray = ls at hl ⊢
  have hl : lv_has ls 5 [(0, .ref a0), (1, .null), (2, .null), (3, .int p3), (4, .int p4)] := hl
  unfold GJ3_init_3 at hF
  refine lv_aload_n hx hb dJ3_init_3_0 rfl (lv_at hl 0 rfl) ?_
  refine W.objInit hx hb hown (hts _ q223) (hts _ q149) (hts _ q150) rfl (by rw [hml]; exact hl.1) rfl dJ3_init_3_1 (Nat.le_of_ble_eq_true rfl) (Nat.le_of_ble_eq_true rfl) ?_
  refine W.eq (g2 := F0 m 4 ls []) rfl ?_
  refine lv_aload_n hx hb dJ3_init_3_4 rfl (lv_at hl 0 rfl) ?_
  refine lv_aload_n hx hb dJ3_init_3_5 rfl (lv_at hl 0 rfl) ?_
  obtain ⟨fs1, e1, k1, lo1, hF⟩ := pV_s hF
  obtain ⟨h1, eh1⟩ : ∃ z, z = hPut h a0 (.inr (6, fs1.set 0 (.ref a0))) := ⟨_, rfl⟩
  rw [← eh1] at hF
  refine h_put (C := RX7) (T := TX7) (N := 8) hx hb hts in_X7 tyX7 tyX7_ok nmX7 hown hGr hr hS e1 (by decide) rfl 0 (by decide) (hts _ q497) (fun _ h9 => h9) rfl (tyX7_ok 0 (by decide)) rfl rfl k1 lo1 dJ3_init_3_6 (fun H locs hr hS => ?_)
  rw [← eh1] at hr
  replace hc := cst_put hc eh1
  refine lv_aload_n hx hb dJ3_init_3_9 rfl (lv_at hl 0 rfl) ?_
  refine va_gets hx hb hGr.kst.2.2.2.2.1 hS hown (hts _ q224) (fun _ h9 => h9) dJ3_init_3_10 ?_
  obtain ⟨fs2, e2, k2, lo2, hF⟩ := pV_s hF
  obtain ⟨h2, eh2⟩ : ∃ z, z = hPut h1 a0 (.inr (6, fs2.set 1 (.ref (D.2 303)))) := ⟨_, rfl⟩
  rw [← eh2] at hF
  refine h_put (C := RX7) (T := TX7) (N := 8) hx hb hts in_X7 tyX7 tyX7_ok nmX7 hown hGr hr hS e2 (by decide) rfl 1 (by decide) (hts _ q498) (fun _ h9 => h9) rfl (tyX7_ok 1 (by decide)) rfl rfl k2 lo2 dJ3_init_3_13 (fun H locs hr hS => ?_)
  rw [← eh2] at hr
  replace hc := cst_put hc eh2
  refine lv_aload_n hx hb dJ3_init_3_16 rfl (lv_at hl 0 rfl) ?_
  refine va_gets hx hb hGr.kst.2.2.2.2.2 hS hown (hts _ q226) (fun _ h9 => h9) dJ3_init_3_17 ?_
  obtain ⟨fs3, e3, k3, lo3, hF⟩ := pV_s hF
  obtain ⟨h3, eh3⟩ : ∃ z, z = hPut h2 a0 (.inr (6, fs3.set 2 (.ref (D.2 304)))) := ⟨_, rfl⟩
  rw [← eh3] at hF
  refine h_put (C := RX7) (T := TX7) (N := 8) hx hb hts in_X7 tyX7 tyX7_ok nmX7 hown hGr hr hS e3 (by decide) rfl 2 (by decide) (hts _ q499) (fun _ h9 => h9) rfl (tyX7_ok 2 (by decide)) rfl rfl k3 lo3 dJ3_init_3_20 (fun H locs hr hS => ?_)
  rw [← eh3] at hr
  replace hc := cst_put hc eh3
  refine lv_iload hx hb dJ3_init_3_23 (lv_at hl 4 rfl) ?_
  refine lv_if_eq (tgt := 36) hx hb dJ3_init_3_25 (by decide) (fun c4 => ?_) (fun c4 => ?_)
  · replace hF := it_t c4 hF
    refine lv_aload_n hx hb dJ3_init_3_36 rfl (lv_at hl 0 rfl) ?_
    refine lv_null hx hb dJ3_init_3_37 ?_
    obtain ⟨fs5, e5, k5, lo5, hF⟩ := pV_s hF
    obtain ⟨h5, eh5⟩ : ∃ z, z = hPut h3 a0 (.inr (6, fs5.set 1 (.null))) := ⟨_, rfl⟩
    rw [← eh5] at hF
    refine h_put (C := RX7) (T := TX7) (N := 8) hx hb hts in_X7 tyX7 tyX7_ok nmX7 hown hGr hr hS e5 (by decide) rfl 1 (by decide) (hts _ q498) (fun _ h9 => h9) rfl (tyX7_ok 1 (by decide)) rfl rfl k5 lo5 dJ3_init_3_38 (fun H locs hr hS => ?_)
    rw [← eh5] at hr
    replace hc := cst_put hc eh5
    refine lv_aload_n hx hb dJ3_init_3_41 rfl (lv_at hl 0 rfl) ?_
    refine lv_aload_nN hx hb dJ3_init_3_42 rfl (lv_at hl 1 rfl) ?_
    obtain ⟨fs6, e6, k6, lo6, hF⟩ := pV_s hF
    obtain ⟨h6, eh6⟩ : ∃ z, z = hPut h5 a0 (.inr (6, fs6.set 3 (.null))) := ⟨_, rfl⟩
    rw [← eh6] at hF
    refine h_put (C := RX7) (T := TX7) (N := 8) hx hb hts in_X7 tyX7 tyX7_ok nmX7 hown hGr hr hS e6 (by decide) rfl 3 (by decide) (hts _ q496) (fun _ h9 => h9) rfl (tyX7_ok 3 (by decide)) rfl rfl k6 lo6 dJ3_init_3_43 (fun H locs hr hS => ?_)
    rw [← eh6] at hr
    replace hc := cst_put hc eh6
    refine lv_aload_n hx hb dJ3_init_3_46 rfl (lv_at hl 0 rfl) ?_
    refine lv_aload_nN hx hb dJ3_init_3_47 rfl (lv_at hl 2 rfl) ?_
    obtain ⟨fs7, e7, k7, lo7, hF⟩ := pV_s hF
    obtain ⟨h7, eh7⟩ : ∃ z, z = hPut h6 a0 (.inr (6, fs7.set 0 (.null))) := ⟨_, rfl⟩
    rw [← eh7] at hF
    refine h_put (C := RX7) (T := TX7) (N := 8) hx hb hts in_X7 tyX7 tyX7_ok nmX7 hown hGr hr hS e7 (by decide) rfl 0 (by decide) (hts _ q497) (fun _ h9 => h9) rfl (tyX7_ok 0 (by decide)) rfl rfl k7 lo7 dJ3_init_3_48 (fun H locs hr hS => ?_)
    rw [← eh7] at hr
    replace hc := cst_put hc eh7
    refine lv_iload_n hx hb dJ3_init_3_51 rfl (lv_at hl 3 rfl) ?_
    refine lv_if_ne (tgt := 60) hx hb dJ3_init_3_52 (by decide) (fun c8 => ?_) (fun c8 => ?_)
    · replace hF := it_f c8 hF
      have bz := bud_r hc hF hmc hms
      refine W.widen (k := mc) (n := ms) bz.1 bz.2 ?_
      exact W.vret hx hb hret (fun t ht hWm => ⟨⟨h7, rfl, Option.some.inj hF, h_end hGr hr hS ht hWm⟩, hS.F ht⟩) hS.2.2 dJ3_init_3_60
    · replace hF := it_t c8 hF
      refine lv_aload_n hx hb dJ3_init_3_55 rfl (lv_at hl 0 rfl) ?_
      refine lv_null hx hb dJ3_init_3_56 ?_
      obtain ⟨fs9, e9, k9, lo9, hF⟩ := pV_s hF
      obtain ⟨h9, eh9⟩ : ∃ z, z = hPut h7 a0 (.inr (6, fs9.set 2 (.null))) := ⟨_, rfl⟩
      rw [← eh9] at hF
      refine h_put (C := RX7) (T := TX7) (N := 8) hx hb hts in_X7 tyX7 tyX7_ok nmX7 hown hGr hr hS e9 (by decide) rfl 2 (by decide) (hts _ q499) (fun _ h9 => h9) rfl (tyX7_ok 2 (by decide)) rfl rfl k9 lo9 dJ3_init_3_57 (fun H locs hr hS => ?_)
      rw [← eh9] at hr
      replace hc := cst_put hc eh9
      have bz := bud_r hc hF hmc hms
      refine W.widen (k := mc) (n := ms) bz.1 bz.2 ?_
      exact W.vret hx hb hret (fun t ht hWm => ⟨⟨h9, rfl, Option.some.inj hF, h_end hGr hr hS ht hWm⟩, hS.F ht⟩) hS.2.2 dJ3_init_3_60
  · replace hF := it_f c4 hF
    exact nomatch hF

def GJ4_init_3 (kz : Nat → Nat) (h : Hp) (a0 : Nat) (p3 : Int32) (p4 : Int32) : Option (Int32 × Hp) := bnd (GJ3_init_3 kz h a0 p3 p4) (fun r1 u1 => some (0, u1))
theorem moJ4_init_3 (kz : Nat → Nat) (h : Hp) (a0 : Nat) (p3 : Int32) (p4 : Int32) : Mo h (GJ4_init_3 kz h a0 p3 p4) := by
  unfold GJ4_init_3
  exact mo_bnd (moJ3_init_3 kz h a0 p3 p4) hle_rf (fun r1 u1 m1 => mo_ret m1)
set_option maxHeartbeats 4000000 in
set_option maxRecDepth 100000 in
theorem mgJ4_init_3 (l : Launch) (D : HD) (A : Nat → Prop) (h : Hp) (a0 : Nat) (p3 : Int32) (p4 : Int32) (out : Int32 × Hp) (hF : GJ4_init_3 D.2 h a0 p3 p4 = some out) (mc ms : Nat) (hmc : hCc out.2 = hCc h + mc) (hms : hSl out.2 = hSl h + ms) : Met l yJ4_init_3 (ws_ yJ4_init_3 cJ4_init_3 5 none) ({ frames := 2, cells := mc, slots := ms, locals := 44 }) (va_Pc [.ref a0, .null, .null, .int p3, .int p4] (hW D A h)) (va_Qv (fun u => (0, u) = out) (hW D A) A) mc ms A := by
  refine va_MetF (cc := cJ4_init_3) (maxL := 5) (ret := none) (by decide +kernel) rfl ?_
  intro p e s m args below meth c s₁ B hml hv
  obtain ⟨rfl, hr, hGr⟩ := hv
  have hx := B.exec
  have hb := B.bytes
  have hret := B.returns
  have hts := atoms_spec (ws := (ws_ yJ4_init_3 cJ4_init_3 5 none)) B.pre
  have hts : ∀ w ∈ lw_all, w.before _ s = true := fun w h => hts w (List.mem_cons_of_mem _ h)
  have hown : s.vm.findClass RJ4 = some m.cls := findClass_of_methodNamed B.named
  have hlocks := B.notSynchronized
  have hin : meth.name = "<init>" := (name_of_methodNamed B.named B.method).1
  have hS : va_S A s.heap s.heap [] := va_S.rf
  have hc : cst h 0 0 h := cst_0
  have hl := lv_entry ([.ref a0, .null, .null, .int p3, .int p4]) (n := 5) (Nat.le_of_ble_eq_true rfl)
  rw [lg_entry_eq]
  generalize (lg_sl ([.ref a0, .null, .null, .int p3, .int p4]) ++ List.replicate (5 - (lg_sl ([.ref a0, .null, .null, .int p3, .int p4])).length) Slot.unset).toArray = ls at hl ⊢
  have hl : lv_has ls 5 [(0, .ref a0), (1, .null), (2, .null), (3, .int p3), (4, .int p4)] := hl
  unfold GJ4_init_3 at hF
  refine lv_aload_n hx hb dJ4_init_3_0 rfl (lv_at hl 0 rfl) ?_
  refine lv_aload_nN hx hb dJ4_init_3_1 rfl (lv_at hl 1 rfl) ?_
  refine lv_aload_nN hx hb dJ4_init_3_2 rfl (lv_at hl 2 rfl) ?_
  refine lv_iload_n hx hb dJ4_init_3_3 rfl (lv_at hl 3 rfl) ?_
  refine lv_iload hx hb dJ4_init_3_4 (lv_at hl 4 rfl) ?_
  obtain ⟨r1, u1, e1, hF⟩ := bnd_s hF
  have mm1 : hle u1 out.2 := (show Mo u1 _ from mo_ret hle_rf) _ hF
  obtain ⟨mc1, ms1, hmc1, hms1⟩ := up_of (moJ3_init_3 D.2 h a0 p3 p4 _ e1)
  replace hc := cst_call hc hmc1 hms1
  refine h_callv (va_runI (As := [.null, .null, .int p3, .int p4]) (rest := []) ⟨hx, hb, hml, hown, hts⟩ (mgJ3_init_3 l D A h a0 p3 p4 _ e1 mc1 ms1 hmc1 hms1) (cwI 4 hts (lw_meth q1506) rfl rfl rfl (hts _ q107) (hts _ q1504) (hts _ q1505) rfl (by decide +kernel) ⟨Nat.le_of_ble_eq_true rfl, Nat.le_of_ble_eq_true rfl⟩) (h_preS hGr hr hS _) rfl rfl hl.1 rfl (lv_room (Nat.le_of_ble_eq_true rfl)) dJ4_init_3_6 ⟨(bud hc mm1 hmc hms).1, (bud hc mm1 hmc hms).2⟩) hS (fun uu H locs hw hr hS => ?_)
  obtain rfl : u1 = uu := (congrArg Prod.snd hw).symm
  have bz := bud_r hc hF hmc hms
  refine W.widen (k := mc) (n := ms) bz.1 bz.2 ?_
  exact W.vret hx hb hret (fun t ht hWm => ⟨⟨u1, rfl, Option.some.inj hF, h_end hGr hr hS ht hWm⟩, hS.F ht⟩) hS.2.2 dJ4_init_3_9

def GX7_init (kz : Nat → Nat) (h : Hp) (a0 : Nat) (p1 : Int32) (p2 : Int32) : Option (Int32 × Hp) := bnd (GJ4_init_3 kz h a0 (0 : Int32) (0 : Int32)) (fun r1 u1 => pV u1 a0 6 6 (.int p1) (fun h2 => pV h2 a0 6 7 (.int p2) (fun h3 => some (0, h3))))
theorem moX7_init (kz : Nat → Nat) (h : Hp) (a0 : Nat) (p1 : Int32) (p2 : Int32) : Mo h (GX7_init kz h a0 p1 p2) := by
  unfold GX7_init
  exact mo_bnd (moJ4_init_3 kz h a0 (0 : Int32) (0 : Int32)) hle_rf (fun r1 u1 m1 => mo_pV m1 (fun h2 m2 => mo_pV m2 (fun h3 m3 => mo_ret m3)))
set_option maxHeartbeats 4000000 in
set_option maxRecDepth 100000 in
theorem mgX7_init (l : Launch) (D : HD) (A : Nat → Prop) (h : Hp) (a0 : Nat) (p1 : Int32) (p2 : Int32) (out : Int32 × Hp) (hF : GX7_init D.2 h a0 p1 p2 = some out) (mc ms : Nat) (hmc : hCc out.2 = hCc h + mc) (hms : hSl out.2 = hSl h + ms) : Met l yX7_init (ws_ yX7_init cX7_init 3 none) ({ frames := 3, cells := mc, slots := ms, locals := 68 }) (va_Pc [.ref a0, .int p1, .int p2] (hW D A h)) (va_Qv (fun u => (0, u) = out) (hW D A) A) mc ms A := by
  refine Met.ofW (cc := cX7_init) (maxL := 3) (ret := none) (by decide +kernel) rfl ?_
  intro p e s m args below meth c s₁ B hml hv
  obtain ⟨rfl, hr, hGr⟩ := hv
  have hx := B.exec
  have hb := B.bytes
  have hret := B.returns
  have hts := atoms_spec (ws := (ws_ yX7_init cX7_init 3 none)) B.pre
  have hts : ∀ w ∈ lw_all, w.before _ s = true := fun w h => hts w (List.mem_cons_of_mem _ h)
  have hown : s.vm.findClass RX7 = some m.cls := findClass_of_methodNamed B.named
  have hlocks := B.notSynchronized
  have hin : meth.name = "<init>" := (name_of_methodNamed B.named B.method).1
  have hS : va_S A s.heap s.heap [] := va_S.rf
  have hc : cst h 0 0 h := cst_0
  have hl := lv_entry ([.ref a0, .int p1, .int p2]) (n := 3) (Nat.le_of_ble_eq_true rfl)
  rw [lg_entry_eq]
  generalize (lg_sl ([.ref a0, .int p1, .int p2]) ++ List.replicate (3 - (lg_sl ([.ref a0, .int p1, .int p2])).length) Slot.unset).toArray = ls at hl ⊢
  have hl : lv_has ls 3 [(0, .ref a0), (1, .int p1), (2, .int p2)] := hl
  unfold GX7_init at hF
  refine lv_aload_n hx hb dX7_init_0 rfl (lv_at hl 0 rfl) ?_
  refine lv_null hx hb dX7_init_1 ?_
  refine lv_null hx hb dX7_init_2 ?_
  refine lv_iconst (v := 0) hx hb dX7_init_3 (by decide) ?_
  refine lv_iconst (v := 0) hx hb dX7_init_4 (by decide) ?_
  obtain ⟨r1, u1, e1, hF⟩ := bnd_s hF
  have mm1 : hle u1 out.2 := (show Mo u1 _ from mo_pV hle_rf (fun h2 m2 => mo_pV m2 (fun h3 m3 => mo_ret m3))) _ hF
  obtain ⟨mc1, ms1, hmc1, hms1⟩ := up_of (moJ4_init_3 D.2 h a0 (0 : Int32) (0 : Int32) _ e1)
  replace hc := cst_call hc hmc1 hms1
  refine h_callv (va_runI (As := [.null, .null, .int 0, .int 0]) (rest := []) ⟨hx, hb, hml, hown, hts⟩ (mgJ4_init_3 l D A h a0 (0 : Int32) (0 : Int32) _ e1 mc1 ms1 hmc1 hms1) (cwI 4 hts (lw_meth q1503) rfl rfl rfl (hts _ q108) (hts _ q1501) (hts _ q1502) rfl (by decide +kernel) ⟨Nat.le_of_ble_eq_true rfl, Nat.le_of_ble_eq_true rfl⟩) (h_preS hGr hr hS _) rfl rfl hl.1 rfl (lv_room (Nat.le_of_ble_eq_true rfl)) dX7_init_5 ⟨(bud hc mm1 hmc hms).1, (bud hc mm1 hmc hms).2⟩) hS (fun uu H locs hw hr hS => ?_)
  obtain rfl : u1 = uu := (congrArg Prod.snd hw).symm
  refine lv_aload_n hx hb dX7_init_8 rfl (lv_at hl 0 rfl) ?_
  refine lv_iload_n hx hb dX7_init_9 rfl (lv_at hl 1 rfl) ?_
  obtain ⟨fs2, e2, k2, lo2, hF⟩ := pV_s hF
  obtain ⟨h2, eh2⟩ : ∃ z, z = hPut u1 a0 (.inr (6, fs2.set 6 (.int p1))) := ⟨_, rfl⟩
  rw [← eh2] at hF
  refine h_putF (C := RX7) (T := TX7) (N := 8) hx hb hts in_X7 tyX7 tyX7_ok nmX7 hown hGr hr hS e2 (by decide) rfl 6 (by decide) (hts _ q1507) (fun _ h9 => h9) rfl hin rfl (tyX7_ok 6 (by decide)) rfl rfl k2 lo2 dX7_init_10 (fun H locs hr hS => ?_)
  rw [← eh2] at hr
  replace hc := cst_put hc eh2
  refine lv_aload_n hx hb dX7_init_13 rfl (lv_at hl 0 rfl) ?_
  refine lv_iload_n hx hb dX7_init_14 rfl (lv_at hl 2 rfl) ?_
  obtain ⟨fs3, e3, k3, lo3, hF⟩ := pV_s hF
  obtain ⟨h3, eh3⟩ : ∃ z, z = hPut h2 a0 (.inr (6, fs3.set 7 (.int p2))) := ⟨_, rfl⟩
  rw [← eh3] at hF
  refine h_putF (C := RX7) (T := TX7) (N := 8) hx hb hts in_X7 tyX7 tyX7_ok nmX7 hown hGr hr hS e3 (by decide) rfl 7 (by decide) (hts _ q1509) (fun _ h9 => h9) rfl hin rfl (tyX7_ok 7 (by decide)) rfl rfl k3 lo3 dX7_init_15 (fun H locs hr hS => ?_)
  rw [← eh3] at hr
  replace hc := cst_put hc eh3
  have bz := bud_r hc hF hmc hms
  refine W.widen (k := mc) (n := ms) bz.1 bz.2 ?_
  exact W.vret hx hb hret (fun t ht hWm => ⟨⟨h3, rfl, Option.some.inj hF, h_end hGr hr hS ht hWm⟩, hS.F ht⟩) hS.2.2 dX7_init_18
