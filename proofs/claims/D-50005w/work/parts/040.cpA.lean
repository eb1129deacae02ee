/-! the component and what it calls of the library, walked by program (tool/dc.py): G.. the pure function, mo.. its growth, mg.. the contract -/
def GX4_init (h : Hp) (a0 : Nat) (a1 : Nat) : Option (Int32 × Hp) := pV h a0 4 0 (.ref a1) (fun h1 => some (0, h1))
theorem moX4_init (h : Hp) (a0 : Nat) (a1 : Nat) : Mo h (GX4_init h a0 a1) := by
  unfold GX4_init
  exact mo_pV hle_rf (fun h1 m1 => mo_ret m1)
set_option maxHeartbeats 4000000 in
set_option maxRecDepth 100000 in
theorem mgX4_init (l : Launch) (D : HD) (A : Nat → Prop) (h : Hp) (a0 : Nat) (a1 : Nat) (out : Int32 × Hp) (hF : GX4_init h a0 a1 = some out) (mc ms : Nat) (hmc : hCc out.2 = hCc h + mc) (hms : hSl out.2 = hSl h + ms) : Met l yX4_init (ws_ yX4_init cX4_init 2 none) ({ frames := 1, cells := mc, slots := ms, locals := 20 }) (va_Pc [.ref a0, .ref a1] (hW D A h)) (va_Qv (fun u => (0, u) = out) (hW D A) A) mc ms A := by
  refine Met.ofW (cc := cX4_init) (maxL := 2) (ret := none) (by decide +kernel) rfl ?_
  intro p e s m args below meth c s₁ B hml hv
  obtain ⟨rfl, hr, hGr⟩ := hv
  have hx := B.exec
  have hb := B.bytes
  have hret := B.returns
  have hts := atoms_spec (ws := (ws_ yX4_init cX4_init 2 none)) B.pre
  have hts : ∀ w ∈ lw_all, w.before _ s = true := fun w h => hts w (List.mem_cons_of_mem _ h)
  have hown : s.vm.findClass RX4 = some m.cls := findClass_of_methodNamed B.named
  have hlocks := B.notSynchronized
  have hin : meth.name = "<init>" := (name_of_methodNamed B.named B.method).1
  have hS : va_S A s.heap s.heap [] := va_S.rf
  have hc : cst h 0 0 h := cst_0
  have hl := lv_entry ([.ref a0, .ref a1]) (n := 2) (Nat.le_of_ble_eq_true rfl)
  rw [lg_entry_eq]
  generalize (lg_sl ([.ref a0, .ref a1]) ++ List.replicate (2 - (lg_sl ([.ref a0, .ref a1])).length) Slot.unset).toArray = ls at hl ⊢
  have hl : lv_has ls 2 [(0, .ref a0), (1, .ref a1)] := hl
  unfold GX4_init at hF
  refine lv_aload_n hx hb dX4_init_0 rfl (lv_at hl 0 rfl) ?_
  refine W.objInit hx hb hown (hts _ q554) (hts _ q149) (hts _ q150) rfl (by rw [hml]; exact hl.1) rfl dX4_init_1 (Nat.le_of_ble_eq_true rfl) (Nat.le_of_ble_eq_true rfl) ?_
  refine W.eq (g2 := F0 m 4 ls []) rfl ?_
  refine lv_aload_n hx hb dX4_init_4 rfl (lv_at hl 0 rfl) ?_
  refine lv_aload_n hx hb dX4_init_5 rfl (lv_at hl 1 rfl) ?_
  obtain ⟨fs1, e1, k1, lo1, hF⟩ := pV_s hF
  obtain ⟨h1, eh1⟩ : ∃ z, z = hPut h a0 (.inr (4, fs1.set 0 (.ref a1))) := ⟨_, rfl⟩
  rw [← eh1] at hF
  refine h_putF (C := RX4) (T := TX4) (N := 1) hx hb hts in_X4 tyX4 tyX4_ok nmX4 hown hGr hr hS e1 (by decide) rfl 0 (by decide) (hts _ q555) (fun _ h9 => h9) rfl hin rfl (tyX4_ok 0 (by decide)) rfl rfl k1 lo1 dX4_init_6 (fun H locs hr hS => ?_)
  rw [← eh1] at hr
  replace hc := cst_put hc eh1
  have bz := bud_r hc hF hmc hms
  refine W.widen (k := mc) (n := ms) bz.1 bz.2 ?_
  exact W.vret hx hb hret (fun t ht hWm => ⟨⟨h1, rfl, Option.some.inj hF, h_end hGr hr hS ht hWm⟩, hS.F ht⟩) hS.2.2 dX4_init_9

def GX4_unit (h : Hp) (p0 : Int32) (p1 : Int32) : Option (Nat × Hp) := nA h 0 p0 (fun a1_ h1 => sI h1 a1_ 0 p1 (1 : Int32) (fun h2 => nW h2 4 [.null] 1 (fun a3_ h3 => bnd (GX4_init h3 a3_ a1_) (fun r4 u4 => some (a3_, u4)))))
theorem moX4_unit (h : Hp) (p0 : Int32) (p1 : Int32) : Mo h (GX4_unit h p0 p1) := by
  unfold GX4_unit
  exact mo_nA hle_rf (fun a1_ h1 m1 => mo_sI m1 (fun h2 m2 => mo_nW m2 (fun a3_ h3 m3 => mo_bnd (moX4_init h3 a3_ a1_) m3 (fun r4 u4 m4 => mo_ret m4))))
set_option maxHeartbeats 4000000 in
set_option maxRecDepth 100000 in
theorem mgX4_unit (l : Launch) (D : HD) (A : Nat → Prop) (h : Hp) (p0 : Int32) (p1 : Int32) (out : Nat × Hp) (hF : GX4_unit h p0 p1 = some out) (mc ms : Nat) (hmc : hCc out.2 = hCc h + mc) (hms : hSl out.2 = hSl h + ms) : Met l yX4_unit (ws_ yX4_unit cX4_unit 3 (some (.object "ExactChains$Vector"))) ({ frames := 2, cells := mc, slots := ms, locals := 41 }) (va_Pc [.int p0, .int p1] (hW D A h)) (va_Qr (fun _ : Hp => True) (fun u r t => (r, u) = out ∧ hW D A u t) A) mc ms A := by
  refine Met.ofW (cc := cX4_unit) (maxL := 3) (ret := (some (.object "ExactChains$Vector"))) (by decide +kernel) rfl ?_
  intro p e s m args below meth c s₁ B hml hv
  obtain ⟨rfl, hr, hGr⟩ := hv
  have hx := B.exec
  have hb := B.bytes
  have hret := B.returns
  have hts := atoms_spec (ws := (ws_ yX4_unit cX4_unit 3 (some (.object "ExactChains$Vector")))) B.pre
  have hts : ∀ w ∈ lw_all, w.before _ s = true := fun w h => hts w (List.mem_cons_of_mem _ h)
  have hown : s.vm.findClass RX4 = some m.cls := findClass_of_methodNamed B.named
  have hlocks := B.notSynchronized
  have hS : va_S A s.heap s.heap [] := va_S.rf
  have hc : cst h 0 0 h := cst_0
  have hl := lv_entry ([.int p0, .int p1]) (n := 3) (Nat.le_of_ble_eq_true rfl)
  rw [lg_entry_eq]
  generalize (lg_sl ([.int p0, .int p1]) ++ List.replicate (3 - (lg_sl ([.int p0, .int p1])).length) Slot.unset).toArray = ls at hl ⊢
  have hl : lv_has ls 3 [(0, .int p0), (1, .int p1)] := hl
  unfold GX4_unit at hF
  refine lv_iload_n hx hb dX4_unit_0 rfl (lv_at hl 0 rfl) ?_
  obtain ⟨a1_, h1, ea1, eh1, g1, hF⟩ := nA_s hF
  have mm1 : hle h1 out.2 := (show Mo h1 _ from mo_sI hle_rf (fun h2 m2 => mo_nW m2 (fun a3_ h3 m3 => mo_bnd (moX4_init h3 a3_ a1_) m3 (fun r4 u4 m4 => mo_ret m4)))) _ hF
  replace hc := cst_new hc eh1
  refine h_newI hx hb (hts _ q177) hGr hr hS g1 (bud hc mm1 hmc hms).1 (bud hc mm1 hmc hms).2 dX4_unit_1 (fun H hr hS => ?_)
  rw [← eh1] at hr
  rw [← ea1]
  refine lv_astore_n (lv' := [(2, .ref a1_), (0, .int p0), (1, .int p1)]) hx hb dX4_unit_3 rfl hl (by decide) rfl (fun ls hl => ?_)
  refine lv_aload_n hx hb dX4_unit_4 rfl (lv_at hl 0 rfl) ?_
  refine lv_iload_n hx hb dX4_unit_5 rfl (lv_at hl 2 rfl) ?_
  refine lv_iconst (v := 1) hx hb dX4_unit_6 (by decide) ?_
  obtain ⟨n2, f2, e2, lo2, g2, hF⟩ := sI_s hF
  obtain ⟨h2, eh2⟩ : ∃ z, z = hPut h1 a1_ (.inl (0, n2, .inl (upd f2 (p1).toNatClampNeg (1 : Int32)))) := ⟨_, rfl⟩
  rw [← eh2] at hF
  refine h_iast hx hb hGr hr hS 0 rfl e2 (x := 1) g2 lo2 dX4_unit_7 (fun H locs hr hS => ?_)
  rw [← eh2] at hr
  replace hc := cst_put hc eh2
  obtain ⟨a3_, h3, ea3, eh3, hF⟩ := nW_s hF
  have mm3 : hle h3 out.2 := (show Mo h3 _ from mo_bnd (moX4_init h3 a3_ a1_) hle_rf (fun r4 u4 m4 => mo_ret m4)) _ hF
  replace hc := cst_new hc eh3
  refine h_new (C := RX4) (T := TX4) (N := 1) hx hb hts in_X4 tyX4 tyX4_ok hown (hts _ q1007) (hts _ q550) (hts _ q123) hGr hr hS (ci := 4) (by decide) rfl (fs := [.null]) (fun j hj => by match j, hj with | 0, _ => rfl | j + 1, hj => omega) (bud hc mm3 hmc hms).1 (bud hc mm3 hmc hms).2 dX4_unit_8 (fun H hr hS => ?_)
  rw [← eh3] at hr
  rw [← ea3]
  refine lv_dup hx hb dX4_unit_11 rfl ?_
  refine lv_aload_n hx hb dX4_unit_12 rfl (lv_at hl 0 rfl) ?_
  obtain ⟨r4, u4, e4, hF⟩ := bnd_s hF
  have mm4 : hle u4 out.2 := (show Mo u4 _ from mo_ret hle_rf) _ hF
  obtain ⟨mc4, ms4, hmc4, hms4⟩ := up_of (moX4_init h3 a3_ a1_ _ e4)
  replace hc := cst_call hc hmc4 hms4
  refine h_callv (va_runI (As := [.ref a1_]) (rest := [.ref a3_]) ⟨hx, hb, hml, hown, hts⟩ (mgX4_init l D A h3 a3_ a1_ _ e4 mc4 ms4 hmc4 hms4) (cwI 1 hts (lw_meth q553) rfl rfl rfl (hts _ q123) (hts _ q1008) (hts _ q552) rfl (by decide +kernel) ⟨Nat.le_of_ble_eq_true rfl, Nat.le_of_ble_eq_true rfl⟩) (h_preS hGr hr hS _) rfl rfl hl.1 rfl (lv_room (Nat.le_of_ble_eq_true rfl)) dX4_unit_13 ⟨(bud hc mm4 hmc hms).1, (bud hc mm4 hmc hms).2⟩) hS (fun uu H locs hw hr hS => ?_)
  obtain rfl : u4 = uu := (congrArg Prod.snd hw).symm
  have bz := bud_r hc hF hmc hms
  refine W.widen (k := mc) (n := ms) bz.1 bz.2 ?_
  exact W.aret (v := .ref a3_) hx hb hret (Or.inl ⟨_, rfl⟩) (Or.inr ⟨_, rfl⟩) (fun t ht hWm => ⟨⟨u4, a3_, rfl, trivial, Option.some.inj hF, h_end hGr hr hS ht hWm⟩, hS.F ht⟩) hS.2.2 dX4_unit_16

def GX4_size (h : Hp) (a0 : Nat) : Option (Int32 × Hp) := gQ h a0 4 0 (fun x1_ => aL h x1_ (fun x2_ => some (x2_, h)))
theorem moX4_size (h : Hp) (a0 : Nat) : Mo h (GX4_size h a0) := by
  unfold GX4_size
  exact mo_gQ (fun x1_ => mo_aL (fun x2_ => mo_ret hle_rf))
set_option maxHeartbeats 4000000 in
set_option maxRecDepth 100000 in
theorem mgX4_size (l : Launch) (D : HD) (A : Nat → Prop) (h : Hp) (a0 : Nat) (out : Int32 × Hp) (hF : GX4_size h a0 = some out) (mc ms : Nat) (hmc : hCc out.2 = hCc h + mc) (hms : hSl out.2 = hSl h + ms) : Met l yX4_size (ws_ yX4_size cX4_size 1 (some .int)) ({ frames := 0, cells := mc, slots := ms, locals := 0 }) (va_Pc [.ref a0] (hW D A h)) (va_Qi (fun r u => (r, u) = out) (hW D A) A) mc ms A := by
  refine Met.ofW (cc := cX4_size) (maxL := 1) (ret := (some .int)) (by decide +kernel) rfl ?_
  intro p e s m args below meth c s₁ B hml hv
  obtain ⟨rfl, hr, hGr⟩ := hv
  have hx := B.exec
  have hb := B.bytes
  have hret := B.returns
  have hts := atoms_spec (ws := (ws_ yX4_size cX4_size 1 (some .int))) B.pre
  have hts : ∀ w ∈ lw_all, w.before _ s = true := fun w h => hts w (List.mem_cons_of_mem _ h)
  have hown : s.vm.findClass RX4 = some m.cls := findClass_of_methodNamed B.named
  have hlocks := B.notSynchronized
  have hS : va_S A s.heap s.heap [] := va_S.rf
  have hc : cst h 0 0 h := cst_0
  have hl := lv_entry ([.ref a0]) (n := 1) (Nat.le_of_ble_eq_true rfl)
  rw [lg_entry_eq]
  generalize (lg_sl ([.ref a0]) ++ List.replicate (1 - (lg_sl ([.ref a0])).length) Slot.unset).toArray = ls at hl ⊢
  have hl : lv_has ls 1 [(0, .ref a0)] := hl
  unfold GX4_size at hF
  refine lv_aload_n hx hb dX4_size_0 rfl (lv_at hl 0 rfl) ?_
  obtain ⟨fs1, x1_, e1, f1, hF⟩ := gQ_s hF
  refine h_get (C := RX4) (T := TX4) (N := 1) hx hb hts in_X4 hown hGr hr e1 (by decide) rfl 0 (by decide) (hts _ q555) (fun _ h9 => h9) f1 dX4_size_1 ?_
  obtain ⟨k2, y2, e2, g2, hF⟩ := aL_s hF
  obtain ⟨x2_, ex2⟩ : ∃ z, z = Int32.ofNat y2.1 := ⟨_, rfl⟩
  rw [← ex2] at hF
  refine h_alen hx hb hGr hr e2 g2 dX4_size_4 ?_
  rw [← ex2]
  have bz := bud_r hc hF hmc hms
  refine W.widen (k := mc) (n := ms) bz.1 bz.2 ?_
  exact W.iret (v := x2_) hx hb hret (fun t ht hWm => ⟨⟨x2_, h, rfl, Option.some.inj hF, h_end hGr hr hS ht hWm⟩, hS.F ht⟩) hS.2.2 dX4_size_5

def GX4_isNull_1 (R : Nat → Hp → Nat → Nat → Int32 → Int32 → Option (Int32 × Hp)) (n : Nat) (h : Hp) (b0 : Nat) (b1 : Nat) (x2 : Int32) (x3 : Int32) : Option (Int32 × Hp) := if x2 ≤ x3 then some ((1 : Int32), h) else aI h b1 0 x3 (fun x4_ => if x4_ = 0 then R 1 h b0 b1 x2 (x3 + 1) else some ((0 : Int32), h))
def GX4_isNull_r : Nat → Nat → Hp → Nat → Nat → Int32 → Int32 → Option (Int32 × Hp)
  | 0 => fun _ _ _ _ _ _ => none
  | n + 1 => fun k => match k with  | _ => GX4_isNull_1 (GX4_isNull_r n) n
def GX4_isNull_0 (R : Nat → Hp → Nat → Nat → Int32 → Int32 → Option (Int32 × Hp)) (n : Nat) (h : Hp) (a0 : Nat) : Option (Int32 × Hp) := gQ h a0 4 0 (fun x1_ => aL h x1_ (fun x2_ => R 1 h a0 x1_ x2_ (0 : Int32)))
def GX4_isNull (n : Nat) (h : Hp) (a0 : Nat) : Option (Int32 × Hp) := GX4_isNull_0 (GX4_isNull_r n) n h a0
theorem moX4_isNull_r (n : Nat) : (∀ (h : Hp) (b0 : Nat) (b1 : Nat) (x2 : Int32) (x3 : Int32), Mo h (GX4_isNull_r n 1 h b0 b1 x2 x3)) := by
  induction n with
  | zero => exact (fun _ _ _ _ _ => mo_no)
  | succ n ih =>
    have ml1 := ih
    exact (fun h b0 b1 x2 x3 => show Mo h (GX4_isNull_1 (GX4_isNull_r n) n h b0 b1 x2 x3) from by unfold GX4_isNull_1; exact mo_ite (mo_ret hle_rf) (mo_aI (fun x4_ => mo_ite (mo_tr hle_rf (ml1 h b0 b1 x2 (x3 + 1))) (mo_ret hle_rf))))
theorem moX4_isNull (n : Nat) (h : Hp) (a0 : Nat) : Mo h (GX4_isNull n h a0) := by
  have ml1 := moX4_isNull_r n
  unfold GX4_isNull GX4_isNull_0
  exact mo_gQ (fun x1_ => mo_aL (fun x2_ => mo_tr hle_rf (ml1 h a0 x1_ x2_ (0 : Int32))))
set_option maxHeartbeats 4000000 in
set_option maxRecDepth 100000 in
theorem mgX4_isNull (l : Launch) (D : HD) (A : Nat → Prop) (h : Hp) (n : Nat) (a0 : Nat) (out : Int32 × Hp) (hF : GX4_isNull n h a0 = some out) (mc ms : Nat) (hmc : hCc out.2 = hCc h + mc) (hms : hSl out.2 = hSl h + ms) : Met l yX4_isNull (ws_ yX4_isNull cX4_isNull 5 (some .boolean)) ({ frames := 0, cells := mc, slots := ms, locals := 0 }) (va_Pc [.ref a0] (hW D A h)) (va_Qi (fun r u => (r, u) = out) (hW D A) A) mc ms A := by
  refine Met.ofW (cc := cX4_isNull) (maxL := 5) (ret := (some .boolean)) (by decide +kernel) rfl ?_
  intro p e s m args below meth c s₁ B hml hv
  obtain ⟨rfl, hr, hGr⟩ := hv
  have hx := B.exec
  have hb := B.bytes
  have hret := B.returns
  have hts := atoms_spec (ws := (ws_ yX4_isNull cX4_isNull 5 (some .boolean))) B.pre
  have hts : ∀ w ∈ lw_all, w.before _ s = true := fun w h => hts w (List.mem_cons_of_mem _ h)
  have hown : s.vm.findClass RX4 = some m.cls := findClass_of_methodNamed B.named
  have hlocks := B.notSynchronized
  have hS : va_S A s.heap s.heap [] := va_S.rf
  have hc : cst h 0 0 h := cst_0
  have hl := lv_entry ([.ref a0]) (n := 5) (Nat.le_of_ble_eq_true rfl)
  rw [lg_entry_eq]
  generalize (lg_sl ([.ref a0]) ++ List.replicate (5 - (lg_sl ([.ref a0])).length) Slot.unset).toArray = ls at hl ⊢
  have hl : lv_has ls 5 [(0, .ref a0)] := hl
  obtain ⟨h0, eh0⟩ : ∃ z, z = h := ⟨_, rfl⟩
  rw [← eh0] at hmc hms
  have loop : ∀ n : Nat, (∀ (h : Hp) (b0 : Nat) (b1 : Nat) (x2 : Int32) (x3 : Int32), GX4_isNull_r n 1 h b0 b1 x2 x3 = some out → ∀ (H : Heap) (locs : List Loc) (cells slots : Nat), cst h0 cells slots h → hR D A h H → va_S A s.heap H locs → ∀ ls : Array Slot, lv_has ls 5 [(0, .ref b0), (1, .ref b1), (2, .int x2), (3, .int x3)] → W p l e (headSpec (ws_ yX4_isNull cX4_isNull 5 (some .boolean)) ({ frames := 0, cells := mc, slots := ms, locals := 0 })).room s m ([.ref a0] : List Value).toArray below meth c H locs cells slots (MQ below (va_Qi (fun r u => (r, u) = out) (hW D A) A) ([.ref a0] : List Value).toArray s mc ms A) (F0 m 10 ls [])) := by
    intro n
    induction n with
    | zero => exact (fun _ _ _ _ _ h => nomatch h)
    | succ n ih =>
      have lp1 := ih
      have ml1 := moX4_isNull_r n
      intro h b0 b1 x2 x3 hF H locs cells slots hc hr hS ls hl
      replace hF : GX4_isNull_1 (GX4_isNull_r n) n h b0 b1 x2 x3 = some out := hF
      unfold GX4_isNull_1 at hF
      refine lv_iload_n hx hb dX4_isNull_10 rfl (lv_at hl 3 rfl) ?_
      refine lv_iload_n hx hb dX4_isNull_11 rfl (lv_at hl 2 rfl) ?_
      refine lv_icmp_ge (tgt := 33) hx hb dX4_isNull_12 (by decide) (fun c3 => ?_) (fun c3 => ?_)
      · replace hF := it_t c3 hF
        refine lv_iconst (v := 1) hx hb dX4_isNull_33 (by decide) ?_
        have bz := bud_r hc hF hmc hms
        refine W.widen (k := mc) (n := ms) bz.1 bz.2 ?_
        exact W.zret (v := (1 : Int32)) hx hb hret rfl (fun t ht hWm => ⟨⟨(1 : Int32), h, rfl, Option.some.inj hF, h_end hGr hr hS ht hWm⟩, hS.F ht⟩) hS.2.2 dX4_isNull_34
      · replace hF := it_f c3 hF
        refine lv_aload_n hx hb dX4_isNull_15 rfl (lv_at hl 1 rfl) ?_
        refine lv_iload_n hx hb dX4_isNull_16 rfl (lv_at hl 3 rfl) ?_
        obtain ⟨n4, f4, e4, g4, hF⟩ := aI_s hF
        obtain ⟨x4_, ex4⟩ : ∃ z, z = f4 (x3).toNatClampNeg := ⟨_, rfl⟩
        rw [← ex4] at hF
        refine h_iald hx hb hGr hr 0 rfl e4 g4 dX4_isNull_17 ?_
        rw [← ex4]
        refine lv_istore (lv' := [(4, .int x4_), (0, .ref b0), (1, .ref b1), (2, .int x2), (3, .int x3)]) hx hb dX4_isNull_18 hl (by decide) rfl (fun ls hl => ?_)
        refine lv_iload hx hb dX4_isNull_20 (lv_at hl 0 rfl) ?_
        refine lv_if_eq (tgt := 27) hx hb dX4_isNull_22 (by decide) (fun c5 => ?_) (fun c5 => ?_)
        · replace hF := it_t c5 hF
          refine lv_iinc (v := (x3 + 1)) (lv' := [(3, .int (x3 + 1)), (4, .int x4_), (0, .ref b0), (1, .ref b1), (2, .int x2)]) hx hb dX4_isNull_27 hl (k := 4) rfl rfl (by decide) rfl (fun ls hl => ?_)
          refine lv_goto (tgt := 10) hx hb dX4_isNull_30 (by decide) ?_
          exact lp1 h b0 b1 x2 (x3 + 1) hF _ _ _ _ hc hr hS ls (lv_sub hl [2, 3, 4, 0] rfl)
        · replace hF := it_f c5 hF
          refine lv_iconst (v := 0) hx hb dX4_isNull_25 (by decide) ?_
          have bz := bud_r hc hF hmc hms
          refine W.widen (k := mc) (n := ms) bz.1 bz.2 ?_
          exact W.zret (v := (0 : Int32)) hx hb hret rfl (fun t ht hWm => ⟨⟨(0 : Int32), h, rfl, Option.some.inj hF, h_end hGr hr hS ht hWm⟩, hS.F ht⟩) hS.2.2 dX4_isNull_26
  have lp1 := loop n
  have ml1 := moX4_isNull_r n
  have hc : cst h0 0 0 h := by rw [eh0]; exact cst_0
  unfold GX4_isNull GX4_isNull_0 at hF
  refine lv_aload_n hx hb dX4_isNull_0 rfl (lv_at hl 0 rfl) ?_
  obtain ⟨fs1, x1_, e1, f1, hF⟩ := gQ_s hF
  refine h_get (C := RX4) (T := TX4) (N := 1) hx hb hts in_X4 hown hGr hr e1 (by decide) rfl 0 (by decide) (hts _ q555) (fun _ h9 => h9) f1 dX4_isNull_1 ?_
  refine lv_astore_n (lv' := [(1, .ref x1_), (0, .ref a0)]) hx hb dX4_isNull_4 rfl hl (by decide) rfl (fun ls hl => ?_)
  refine lv_aload_n hx hb dX4_isNull_5 rfl (lv_at hl 0 rfl) ?_
  obtain ⟨k2, y2, e2, g2, hF⟩ := aL_s hF
  obtain ⟨x2_, ex2⟩ : ∃ z, z = Int32.ofNat y2.1 := ⟨_, rfl⟩
  rw [← ex2] at hF
  refine h_alen hx hb hGr hr e2 g2 dX4_isNull_6 ?_
  rw [← ex2]
  refine lv_istore_n (lv' := [(2, .int x2_), (1, .ref x1_), (0, .ref a0)]) hx hb dX4_isNull_7 rfl hl (by decide) rfl (fun ls hl => ?_)
  refine lv_iconst (v := 0) hx hb dX4_isNull_8 (by decide) ?_
  refine lv_istore_n (lv' := [(3, .int 0), (2, .int x2_), (1, .ref x1_), (0, .ref a0)]) hx hb dX4_isNull_9 rfl hl (by decide) rfl (fun ls hl => ?_)
  exact lp1 h a0 x1_ x2_ (0 : Int32) hF _ _ _ _ hc hr hS ls (lv_sub hl [3, 2, 1, 0] rfl)

def GX4_with (h : Hp) (a0 : Nat) (p1 : Int32) (p2 : Int32) : Option (Nat × Hp) := gQ h a0 4 0 (fun x1_ => kA h 0 x1_ (fun a2_ h2 => gA h2 a2_ 0 (sI h2 a2_ 0 p1 p2 (fun h4 => nW h4 4 [.null] 1 (fun a5_ h5 => bnd (GX4_init h5 a5_ a2_) (fun r6 u6 => some (a5_, u6)))))))
theorem moX4_with (h : Hp) (a0 : Nat) (p1 : Int32) (p2 : Int32) : Mo h (GX4_with h a0 p1 p2) := by
  unfold GX4_with
  exact mo_gQ (fun x1_ => mo_kA hle_rf (fun a2_ h2 m2 => mo_gA (mo_sI m2 (fun h4 m4 => mo_nW m4 (fun a5_ h5 m5 => mo_bnd (moX4_init h5 a5_ a2_) m5 (fun r6 u6 m6 => mo_ret m6))))))
set_option maxHeartbeats 4000000 in
set_option maxRecDepth 100000 in
theorem mgX4_with (l : Launch) (D : HD) (A : Nat → Prop) (h : Hp) (a0 : Nat) (p1 : Int32) (p2 : Int32) (out : Nat × Hp) (hF : GX4_with h a0 p1 p2 = some out) (mc ms : Nat) (hmc : hCc out.2 = hCc h + mc) (hms : hSl out.2 = hSl h + ms) : Met l yX4_with (ws_ yX4_with cX4_with 4 (some (.object "ExactChains$Vector"))) ({ frames := 2, cells := mc, slots := ms, locals := 41 }) (va_Pc [.ref a0, .int p1, .int p2] (hW D A h)) (va_Qr (fun _ : Hp => True) (fun u r t => (r, u) = out ∧ hW D A u t) A) mc ms A := by
  refine Met.ofW (cc := cX4_with) (maxL := 4) (ret := (some (.object "ExactChains$Vector"))) (by decide +kernel) rfl ?_
  intro p e s m args below meth c s₁ B hml hv
  obtain ⟨rfl, hr, hGr⟩ := hv
  have hx := B.exec
  have hb := B.bytes
  have hret := B.returns
  have hts := atoms_spec (ws := (ws_ yX4_with cX4_with 4 (some (.object "ExactChains$Vector")))) B.pre
  have hts : ∀ w ∈ lw_all, w.before _ s = true := fun w h => hts w (List.mem_cons_of_mem _ h)
  have hown : s.vm.findClass RX4 = some m.cls := findClass_of_methodNamed B.named
  have hlocks := B.notSynchronized
  have hS : va_S A s.heap s.heap [] := va_S.rf
  have hc : cst h 0 0 h := cst_0
  have hl := lv_entry ([.ref a0, .int p1, .int p2]) (n := 4) (Nat.le_of_ble_eq_true rfl)
  rw [lg_entry_eq]
  generalize (lg_sl ([.ref a0, .int p1, .int p2]) ++ List.replicate (4 - (lg_sl ([.ref a0, .int p1, .int p2])).length) Slot.unset).toArray = ls at hl ⊢
  have hl : lv_has ls 4 [(0, .ref a0), (1, .int p1), (2, .int p2)] := hl
  unfold GX4_with at hF
  refine lv_aload_n hx hb dX4_with_0 rfl (lv_at hl 0 rfl) ?_
  obtain ⟨fs1, x1_, e1, f1, hF⟩ := gQ_s hF
  refine h_get (C := RX4) (T := TX4) (N := 1) hx hb hts in_X4 hown hGr hr e1 (by decide) rfl 0 (by decide) (hts _ q555) (fun _ h9 => h9) f1 dX4_with_1 ?_
  obtain ⟨n2, f2, a2_, h2, e2, ft2, ea2, eh2, hF⟩ := kA_s hF
  have mm2 : hle h2 out.2 := (show Mo h2 _ from mo_gA (mo_sI hle_rf (fun h4 m4 => mo_nW m4 (fun a5_ h5 m5 => mo_bnd (moX4_init h5 a5_ a2_) m5 (fun r6 u6 m6 => mo_ret m6))))) _ hF
  replace hc := cst_new hc eh2
  refine h_clone hx hb (by rw [hml]; exact hl.1.symm) hown (hts _ q1627) (hts _ q1628) (hts _ q330) (hts _ q331) (hts _ q1629) (hGr.nw q1630 rfl) hGr hr hS 0 (by decide) e2 ft2 (h_nmI hGr) (Nat.le_of_ble_eq_true rfl) (Nat.le_of_ble_eq_true rfl) (bud hc mm2 hmc hms).1 (bud hc mm2 hmc hms).2 dX4_with_4 (fun H hr hS => ?_)
  rw [← eh2] at hr
  rw [← ea2]
  obtain ⟨y3, e3, hF⟩ := gA_s hF
  refine h_castA hx hb hown (hts _ q1631) hr e3 (h_nmI hGr) dX4_with_7 ?_
  refine lv_astore_n (lv' := [(3, .ref a2_), (0, .ref a0), (1, .int p1), (2, .int p2)]) hx hb dX4_with_10 rfl hl (by decide) rfl (fun ls hl => ?_)
  refine lv_aload_n hx hb dX4_with_11 rfl (lv_at hl 0 rfl) ?_
  refine lv_iload_n hx hb dX4_with_12 rfl (lv_at hl 2 rfl) ?_
  refine lv_iload_n hx hb dX4_with_13 rfl (lv_at hl 3 rfl) ?_
  obtain ⟨n4, f4, e4, lo4, g4, hF⟩ := sI_s hF
  obtain ⟨h4, eh4⟩ : ∃ z, z = hPut h2 a2_ (.inl (0, n4, .inl (upd f4 (p1).toNatClampNeg p2))) := ⟨_, rfl⟩
  rw [← eh4] at hF
  refine h_iast hx hb hGr hr hS 0 rfl e4 (x := p2) g4 lo4 dX4_with_14 (fun H locs hr hS => ?_)
  rw [← eh4] at hr
  replace hc := cst_put hc eh4
  obtain ⟨a5_, h5, ea5, eh5, hF⟩ := nW_s hF
  have mm5 : hle h5 out.2 := (show Mo h5 _ from mo_bnd (moX4_init h5 a5_ a2_) hle_rf (fun r6 u6 m6 => mo_ret m6)) _ hF
  replace hc := cst_new hc eh5
  refine h_new (C := RX4) (T := TX4) (N := 1) hx hb hts in_X4 tyX4 tyX4_ok hown (hts _ q1007) (hts _ q550) (hts _ q123) hGr hr hS (ci := 4) (by decide) rfl (fs := [.null]) (fun j hj => by match j, hj with | 0, _ => rfl | j + 1, hj => omega) (bud hc mm5 hmc hms).1 (bud hc mm5 hmc hms).2 dX4_with_15 (fun H hr hS => ?_)
  rw [← eh5] at hr
  rw [← ea5]
  refine lv_dup hx hb dX4_with_18 rfl ?_
  refine lv_aload_n hx hb dX4_with_19 rfl (lv_at hl 0 rfl) ?_
  obtain ⟨r6, u6, e6, hF⟩ := bnd_s hF
  have mm6 : hle u6 out.2 := (show Mo u6 _ from mo_ret hle_rf) _ hF
  obtain ⟨mc6, ms6, hmc6, hms6⟩ := up_of (moX4_init h5 a5_ a2_ _ e6)
  replace hc := cst_call hc hmc6 hms6
  refine h_callv (va_runI (As := [.ref a2_]) (rest := [.ref a5_]) ⟨hx, hb, hml, hown, hts⟩ (mgX4_init l D A h5 a5_ a2_ _ e6 mc6 ms6 hmc6 hms6) (cwI 1 hts (lw_meth q553) rfl rfl rfl (hts _ q123) (hts _ q1008) (hts _ q552) rfl (by decide +kernel) ⟨Nat.le_of_ble_eq_true rfl, Nat.le_of_ble_eq_true rfl⟩) (h_preS hGr hr hS _) rfl rfl hl.1 rfl (lv_room (Nat.le_of_ble_eq_true rfl)) dX4_with_20 ⟨(bud hc mm6 hmc hms).1, (bud hc mm6 hmc hms).2⟩) hS (fun uu H locs hw hr hS => ?_)
  obtain rfl : u6 = uu := (congrArg Prod.snd hw).symm
  have bz := bud_r hc hF hmc hms
  refine W.widen (k := mc) (n := ms) bz.1 bz.2 ?_
  exact W.aret (v := .ref a5_) hx hb hret (Or.inl ⟨_, rfl⟩) (Or.inr ⟨_, rfl⟩) (fun t ht hWm => ⟨⟨u6, a5_, rfl, trivial, Option.some.inj hF, h_end hGr hr hS ht hWm⟩, hS.F ht⟩) hS.2.2 dX4_with_23

def GX1_inRange (h : Hp) (l0 : Int64) (l2 : Int64) (l4 : Int64) : Option (Int32 × Hp) := if (lg_cmp l0 l2) < 0 then some ((0 : Int32), h) else if 0 < (lg_cmp l0 l4) then some ((0 : Int32), h) else some ((1 : Int32), h)
theorem moX1_inRange (h : Hp) (l0 : Int64) (l2 : Int64) (l4 : Int64) : Mo h (GX1_inRange h l0 l2 l4) := by
  unfold GX1_inRange
  exact mo_ite (mo_ret hle_rf) (mo_ite (mo_ret hle_rf) (mo_ret hle_rf))
set_option maxHeartbeats 4000000 in
set_option maxRecDepth 100000 in
theorem mgX1_inRange (l : Launch) (D : HD) (A : Nat → Prop) (h : Hp) (l0 : Int64) (l2 : Int64) (l4 : Int64) (out : Int32 × Hp) (hF : GX1_inRange h l0 l2 l4 = some out) (mc ms : Nat) (hmc : hCc out.2 = hCc h + mc) (hms : hSl out.2 = hSl h + ms) : Met l yX1_inRange (ws_ yX1_inRange cX1_inRange 6 (some .boolean)) ({ frames := 0, cells := mc, slots := ms, locals := 0 }) (va_Pc [.long l0, .long l2, .long l4] (hW D A h)) (va_Qi (fun r u => (r, u) = out) (hW D A) A) mc ms A := by
  refine Met.ofW (cc := cX1_inRange) (maxL := 6) (ret := (some .boolean)) (by decide +kernel) rfl ?_
  intro p e s m args below meth c s₁ B hml hv
  obtain ⟨rfl, hr, hGr⟩ := hv
  have hx := B.exec
  have hb := B.bytes
  have hret := B.returns
  have hts := atoms_spec (ws := (ws_ yX1_inRange cX1_inRange 6 (some .boolean))) B.pre
  have hts : ∀ w ∈ lw_all, w.before _ s = true := fun w h => hts w (List.mem_cons_of_mem _ h)
  have hown : s.vm.findClass RX1 = some m.cls := findClass_of_methodNamed B.named
  have hlocks := B.notSynchronized
  have hS : va_S A s.heap s.heap [] := va_S.rf
  have hc : cst h 0 0 h := cst_0
  have hl := lv_entry ([.long l0, .long l2, .long l4]) (n := 6) (Nat.le_of_ble_eq_true rfl)
  rw [lg_entry_eq]
  generalize (lg_sl ([.long l0, .long l2, .long l4]) ++ List.replicate (6 - (lg_sl ([.long l0, .long l2, .long l4])).length) Slot.unset).toArray = ls at hl ⊢
  have hl : lv_has ls 6 [(0, .long l0), (2, .long l2), (4, .long l4)] := hl
  unfold GX1_inRange at hF
  refine lv_lload_n hx hb dX1_inRange_0 rfl (lv_at hl 0 rfl) ?_
  refine lv_lload_n hx hb dX1_inRange_1 rfl (lv_at hl 1 rfl) ?_
  refine W.lcmp hx hb dX1_inRange_2 ?_
  refine lv_if_lt (tgt := 17) hx hb dX1_inRange_3 (by decide) (fun c1 => ?_) (fun c1 => ?_)
  · replace hF := it_t c1 hF
    refine lv_iconst (v := 0) hx hb dX1_inRange_17 (by decide) ?_
    have bz := bud_r hc hF hmc hms
    refine W.widen (k := mc) (n := ms) bz.1 bz.2 ?_
    exact W.zret (v := (0 : Int32)) hx hb hret rfl (fun t ht hWm => ⟨⟨(0 : Int32), h, rfl, Option.some.inj hF, h_end hGr hr hS ht hWm⟩, hS.F ht⟩) hS.2.2 dX1_inRange_18
  · replace hF := it_f c1 hF
    refine lv_lload_n hx hb dX1_inRange_6 rfl (lv_at hl 0 rfl) ?_
    refine lv_lload hx hb dX1_inRange_7 (lv_at hl 2 rfl) ?_
    refine W.lcmp hx hb dX1_inRange_9 ?_
    refine lv_if_gt (tgt := 17) hx hb dX1_inRange_10 (by decide) (fun c2 => ?_) (fun c2 => ?_)
    · replace hF := it_t c2 hF
      refine lv_iconst (v := 0) hx hb dX1_inRange_17 (by decide) ?_
      have bz := bud_r hc hF hmc hms
      refine W.widen (k := mc) (n := ms) bz.1 bz.2 ?_
      exact W.zret (v := (0 : Int32)) hx hb hret rfl (fun t ht hWm => ⟨⟨(0 : Int32), h, rfl, Option.some.inj hF, h_end hGr hr hS ht hWm⟩, hS.F ht⟩) hS.2.2 dX1_inRange_18
    · replace hF := it_f c2 hF
      refine lv_iconst (v := 1) hx hb dX1_inRange_13 (by decide) ?_
      refine lv_goto (tgt := 18) hx hb dX1_inRange_14 (by decide) ?_
      have bz := bud_r hc hF hmc hms
      refine W.widen (k := mc) (n := ms) bz.1 bz.2 ?_
      exact W.zret (v := (1 : Int32)) hx hb hret rfl (fun t ht hWm => ⟨⟨(1 : Int32), h, rfl, Option.some.inj hF, h_end hGr hr hS ht hWm⟩, hS.F ht⟩) hS.2.2 dX1_inRange_18

def GX3_init_1 (R : Nat → Hp → Nat → Int32 → Int32 → Int32 → Option (Int32 × Hp)) (n : Nat) (h : Hp) (b0 : Nat) (x1 : Int32) (x2 : Int32) (x3 : Int32) : Option (Int32 × Hp) := if x1 ≤ x2 then some (0, h) else R 2 h b0 x1 x2 (1 : Int32)
def GX3_init_2 (R : Nat → Hp → Nat → Int32 → Int32 → Int32 → Option (Int32 × Hp)) (n : Nat) (h : Hp) (b0 : Nat) (x1 : Int32) (x2 : Int32) (x3 : Int32) : Option (Int32 × Hp) := if x1 ≤ x3 then R 1 h b0 x1 (x2 + 1) x3 else gd (nzB x1) (if ((x2 * x3) - (x2 * x3) / x1 * x1) = 1 then gQ h b0 3 1 (fun x8_ => sI h x8_ 0 x2 x3 (fun h9 => R 2 h9 b0 x1 x2 (x3 + 1))) else R 2 h b0 x1 x2 (x3 + 1))
def GX3_init_r : Nat → Nat → Hp → Nat → Int32 → Int32 → Int32 → Option (Int32 × Hp)
  | 0 => fun _ _ _ _ _ _ => none
  | n + 1 => fun k => match k with | 1 => GX3_init_1 (GX3_init_r n) n | _ => GX3_init_2 (GX3_init_r n) n
def GX3_init_0 (R : Nat → Hp → Nat → Int32 → Int32 → Int32 → Option (Int32 × Hp)) (n : Nat) (h : Hp) (a0 : Nat) (p1 : Int32) : Option (Int32 × Hp) := nA h 0 (97 : Int32) (fun a1_ h1 => pV h1 a0 3 1 (.ref a1_) (fun h2 => pV h2 a0 3 0 (.int p1) (fun h3 => R 1 h3 a0 p1 (1 : Int32) 0)))
def GX3_init (n : Nat) (h : Hp) (a0 : Nat) (p1 : Int32) : Option (Int32 × Hp) := GX3_init_0 (GX3_init_r n) n h a0 p1
theorem moX3_init_r (n : Nat) : (∀ (h : Hp) (b0 : Nat) (x1 : Int32) (x2 : Int32) (x3 : Int32), Mo h (GX3_init_r n 1 h b0 x1 x2 x3)) ∧ (∀ (h : Hp) (b0 : Nat) (x1 : Int32) (x2 : Int32) (x3 : Int32), Mo h (GX3_init_r n 2 h b0 x1 x2 x3)) := by
  induction n with
  | zero => exact ⟨(fun _ _ _ _ _ => mo_no), (fun _ _ _ _ _ => mo_no)⟩
  | succ n ih =>
    obtain ⟨ml1, ml2⟩ := ih
    exact ⟨(fun h b0 x1 x2 x3 => show Mo h (GX3_init_1 (GX3_init_r n) n h b0 x1 x2 x3) from by unfold GX3_init_1; exact mo_ite (mo_ret hle_rf) (mo_tr hle_rf (ml2 h b0 x1 x2 (1 : Int32)))),
      (fun h b0 x1 x2 x3 => show Mo h (GX3_init_2 (GX3_init_r n) n h b0 x1 x2 x3) from by unfold GX3_init_2; exact mo_ite (mo_tr hle_rf (ml1 h b0 x1 (x2 + 1) x3)) (mo_gd (mo_ite (mo_gQ (fun x8_ => mo_sI hle_rf (fun h9 m9 => mo_tr m9 (ml2 h9 b0 x1 x2 (x3 + 1))))) (mo_tr hle_rf (ml2 h b0 x1 x2 (x3 + 1))))))⟩
theorem moX3_init (n : Nat) (h : Hp) (a0 : Nat) (p1 : Int32) : Mo h (GX3_init n h a0 p1) := by
  obtain ⟨ml1, ml2⟩ := moX3_init_r n
  unfold GX3_init GX3_init_0
  exact mo_nA hle_rf (fun a1_ h1 m1 => mo_pV m1 (fun h2 m2 => mo_pV m2 (fun h3 m3 => mo_tr m3 (ml1 h3 a0 p1 (1 : Int32) 0))))
set_option maxHeartbeats 4000000 in
set_option maxRecDepth 100000 in
theorem mgX3_init (l : Launch) (D : HD) (A : Nat → Prop) (h : Hp) (n : Nat) (a0 : Nat) (p1 : Int32) (out : Int32 × Hp) (hF : GX3_init n h a0 p1 = some out) (mc ms : Nat) (hmc : hCc out.2 = hCc h + mc) (hms : hSl out.2 = hSl h + ms) : Met l yX3_init (ws_ yX3_init cX3_init 4 none) ({ frames := 1, cells := mc, slots := ms, locals := 20 }) (va_Pc [.ref a0, .int p1] (hW D A h)) (va_Qv (fun u => (0, u) = out) (hW D A) A) mc ms A := by
  refine Met.ofW (cc := cX3_init) (maxL := 4) (ret := none) (by decide +kernel) rfl ?_
  intro p e s m args below meth c s₁ B hml hv
  obtain ⟨rfl, hr, hGr⟩ := hv
  have hx := B.exec
  have hb := B.bytes
  have hret := B.returns
  have hts := atoms_spec (ws := (ws_ yX3_init cX3_init 4 none)) B.pre
  have hts : ∀ w ∈ lw_all, w.before _ s = true := fun w h => hts w (List.mem_cons_of_mem _ h)
  have hown : s.vm.findClass RX3 = some m.cls := findClass_of_methodNamed B.named
  have hlocks := B.notSynchronized
  have hin : meth.name = "<init>" := (name_of_methodNamed B.named B.method).1
  have hS : va_S A s.heap s.heap [] := va_S.rf
  have hc : cst h 0 0 h := cst_0
  have hl := lv_entry ([.ref a0, .int p1]) (n := 4) (Nat.le_of_ble_eq_true rfl)
  rw [lg_entry_eq]
  generalize (lg_sl ([.ref a0, .int p1]) ++ List.replicate (4 - (lg_sl ([.ref a0, .int p1])).length) Slot.unset).toArray = ls at hl ⊢
  have hl : lv_has ls 4 [(0, .ref a0), (1, .int p1)] := hl
  obtain ⟨h0, eh0⟩ : ∃ z, z = h := ⟨_, rfl⟩
  rw [← eh0] at hmc hms
  have loop : ∀ n : Nat, (∀ (h : Hp) (b0 : Nat) (x1 : Int32) (x2 : Int32) (x3 : Int32), GX3_init_r n 1 h b0 x1 x2 x3 = some out → ∀ (H : Heap) (locs : List Loc) (cells slots : Nat), cst h0 cells slots h → hR D A h H → va_S A s.heap H locs → ∀ ls : Array Slot, lv_has ls 4 [(0, .ref b0), (1, .int x1), (2, .int x2)] → W p l e (headSpec (ws_ yX3_init cX3_init 4 none) ({ frames := 1, cells := mc, slots := ms, locals := 20 })).room s m ([.ref a0, .int p1] : List Value).toArray below meth c H locs cells slots (MQ below (va_Qv (fun u => (0, u) = out) (hW D A) A) ([.ref a0, .int p1] : List Value).toArray s mc ms A) (F0 m 19 ls [])) ∧ (∀ (h : Hp) (b0 : Nat) (x1 : Int32) (x2 : Int32) (x3 : Int32), GX3_init_r n 2 h b0 x1 x2 x3 = some out → ∀ (H : Heap) (locs : List Loc) (cells slots : Nat), cst h0 cells slots h → hR D A h H → va_S A s.heap H locs → ∀ ls : Array Slot, lv_has ls 4 [(0, .ref b0), (1, .int x1), (2, .int x2), (3, .int x3)] → W p l e (headSpec (ws_ yX3_init cX3_init 4 none) ({ frames := 1, cells := mc, slots := ms, locals := 20 })).room s m ([.ref a0, .int p1] : List Value).toArray below meth c H locs cells slots (MQ below (va_Qv (fun u => (0, u) = out) (hW D A) A) ([.ref a0, .int p1] : List Value).toArray s mc ms A) (F0 m 26 ls [])) := by
    intro n
    induction n with
    | zero => exact ⟨(fun _ _ _ _ _ h => nomatch h), (fun _ _ _ _ _ h => nomatch h)⟩
    | succ n ih =>
      obtain ⟨lp1, lp2⟩ := ih
      obtain ⟨ml1, ml2⟩ := moX3_init_r n
      refine ⟨?_, ?_⟩
      · intro h b0 x1 x2 x3 hF H locs cells slots hc hr hS ls hl
        replace hF : GX3_init_1 (GX3_init_r n) n h b0 x1 x2 x3 = some out := hF
        unfold GX3_init_1 at hF
        refine lv_iload_n hx hb dX3_init_19 rfl (lv_at hl 2 rfl) ?_
        refine lv_iload_n hx hb dX3_init_20 rfl (lv_at hl 1 rfl) ?_
        refine lv_icmp_ge (tgt := 59) hx hb dX3_init_21 (by decide) (fun c4 => ?_) (fun c4 => ?_)
        · replace hF := it_t c4 hF
          have bz := bud_r hc hF hmc hms
          refine W.widen (k := mc) (n := ms) bz.1 bz.2 ?_
          exact W.vret hx hb hret (fun t ht hWm => ⟨⟨h, rfl, Option.some.inj hF, h_end hGr hr hS ht hWm⟩, hS.F ht⟩) hS.2.2 dX3_init_59
        · replace hF := it_f c4 hF
          refine lv_iconst (v := 1) hx hb dX3_init_24 (by decide) ?_
          refine lv_istore_n (lv' := [(3, .int 1), (0, .ref b0), (1, .int x1), (2, .int x2)]) hx hb dX3_init_25 rfl hl (by decide) rfl (fun ls hl => ?_)
          exact lp2 h b0 x1 x2 (1 : Int32) hF _ _ _ _ hc hr hS ls (lv_sub hl [1, 2, 3, 0] rfl)
      · intro h b0 x1 x2 x3 hF H locs cells slots hc hr hS ls hl
        replace hF : GX3_init_2 (GX3_init_r n) n h b0 x1 x2 x3 = some out := hF
        unfold GX3_init_2 at hF
        refine lv_iload_n hx hb dX3_init_26 rfl (lv_at hl 3 rfl) ?_
        refine lv_iload_n hx hb dX3_init_27 rfl (lv_at hl 1 rfl) ?_
        refine lv_icmp_ge (tgt := 53) hx hb dX3_init_28 (by decide) (fun c5 => ?_) (fun c5 => ?_)
        · replace hF := it_t c5 hF
          refine lv_iinc (v := (x2 + 1)) (lv' := [(2, .int (x2 + 1)), (0, .ref b0), (1, .int x1), (3, .int x3)]) hx hb dX3_init_53 hl (k := 2) rfl rfl (by decide) rfl (fun ls hl => ?_)
          refine lv_goto (tgt := 19) hx hb dX3_init_56 (by decide) ?_
          exact lp1 h b0 x1 (x2 + 1) x3 hF _ _ _ _ hc hr hS ls (lv_sub hl [1, 2, 0] rfl)
        · replace hF := it_f c5 hF
          refine lv_iload_n hx hb dX3_init_31 rfl (lv_at hl 2 rfl) ?_
          refine lv_iload_n hx hb dX3_init_32 rfl (lv_at hl 3 rfl) ?_
          refine lv_imul hx hb dX3_init_33 ?_
          refine lv_iload_n hx hb dX3_init_34 rfl (lv_at hl 1 rfl) ?_
          obtain ⟨g6, hF⟩ := gd_s hF
          refine lv_irem hx hb dX3_init_35 (nz_of g6) ?_
          refine lv_iconst (v := 1) hx hb dX3_init_36 (by decide) ?_
          refine lv_icmp_ne (tgt := 47) hx hb dX3_init_37 (by decide) (fun c7 => ?_) (fun c7 => ?_)
          · replace hF := it_f c7 hF
            refine lv_iinc (v := (x3 + 1)) (lv' := [(3, .int (x3 + 1)), (0, .ref b0), (1, .int x1), (2, .int x2)]) hx hb dX3_init_47 hl (k := 3) rfl rfl (by decide) rfl (fun ls hl => ?_)
            refine lv_goto (tgt := 26) hx hb dX3_init_50 (by decide) ?_
            exact lp2 h b0 x1 x2 (x3 + 1) hF _ _ _ _ hc hr hS ls (lv_sub hl [1, 2, 3, 0] rfl)
          · replace hF := it_t c7 hF
            refine lv_aload_n hx hb dX3_init_40 rfl (lv_at hl 0 rfl) ?_
            obtain ⟨fs8, x8_, e8, f8, hF⟩ := gQ_s hF
            refine h_get (C := RX3) (T := TX3) (N := 2) hx hb hts in_X3 hown hGr hr e8 (by decide) rfl 1 (by decide) (hts _ q170) (fun _ h9 => h9) f8 dX3_init_41 ?_
            refine lv_iload_n hx hb dX3_init_44 rfl (lv_at hl 2 rfl) ?_
            refine lv_iload_n hx hb dX3_init_45 rfl (lv_at hl 3 rfl) ?_
            obtain ⟨n9, f9, e9, lo9, g9, hF⟩ := sI_s hF
            obtain ⟨h9, eh9⟩ : ∃ z, z = hPut h x8_ (.inl (0, n9, .inl (upd f9 (x2).toNatClampNeg x3))) := ⟨_, rfl⟩
            rw [← eh9] at hF
            refine h_iast hx hb hGr hr hS 0 rfl e9 (x := x3) g9 lo9 dX3_init_46 (fun H locs hr hS => ?_)
            rw [← eh9] at hr
            replace hc := cst_put hc eh9
            refine lv_iinc (v := (x3 + 1)) (lv' := [(3, .int (x3 + 1)), (0, .ref b0), (1, .int x1), (2, .int x2)]) hx hb dX3_init_47 hl (k := 3) rfl rfl (by decide) rfl (fun ls hl => ?_)
            refine lv_goto (tgt := 26) hx hb dX3_init_50 (by decide) ?_
            exact lp2 h9 b0 x1 x2 (x3 + 1) hF _ _ _ _ hc hr hS ls (lv_sub hl [1, 2, 3, 0] rfl)
  obtain ⟨lp1, lp2⟩ := loop n
  obtain ⟨ml1, ml2⟩ := moX3_init_r n
  have hc : cst h0 0 0 h := by rw [eh0]; exact cst_0
  unfold GX3_init GX3_init_0 at hF
  refine lv_aload_n hx hb dX3_init_0 rfl (lv_at hl 0 rfl) ?_
  refine W.objInit hx hb hown (hts _ q164) (hts _ q149) (hts _ q150) rfl (by rw [hml]; exact hl.1) rfl dX3_init_1 (Nat.le_of_ble_eq_true rfl) (Nat.le_of_ble_eq_true rfl) ?_
  refine W.eq (g2 := F0 m 4 ls []) rfl ?_
  refine lv_aload_n hx hb dX3_init_4 rfl (lv_at hl 0 rfl) ?_
  refine lv_bipush (v := 97) hx hb dX3_init_5 (by decide) ?_
  obtain ⟨a1_, h1, ea1, eh1, g1, hF⟩ := nA_s hF
  have mm1 : hle h1 out.2 := (show Mo h1 _ from mo_pV hle_rf (fun h2 m2 => mo_pV m2 (fun h3 m3 => mo_tr m3 (ml1 h3 a0 p1 (1 : Int32) 0)))) _ hF
  replace hc := cst_new hc eh1
  refine h_newI hx hb (hts _ q177) hGr hr hS g1 (bud hc mm1 hmc hms).1 (bud hc mm1 hmc hms).2 dX3_init_7 (fun H hr hS => ?_)
  rw [← eh1] at hr
  rw [← ea1]
  obtain ⟨fs2, e2, k2, lo2, hF⟩ := pV_s hF
  obtain ⟨h2, eh2⟩ : ∃ z, z = hPut h1 a0 (.inr (3, fs2.set 1 (.ref a1_))) := ⟨_, rfl⟩
  rw [← eh2] at hF
  refine h_putF (C := RX3) (T := TX3) (N := 2) hx hb hts in_X3 tyX3 tyX3_ok nmX3 hown hGr hr hS e2 (by decide) rfl 1 (by decide) (hts _ q170) (fun _ h9 => h9) rfl hin rfl (tyX3_ok 1 (by decide)) rfl rfl k2 lo2 dX3_init_9 (fun H locs hr hS => ?_)
  rw [← eh2] at hr
  replace hc := cst_put hc eh2
  refine lv_aload_n hx hb dX3_init_12 rfl (lv_at hl 0 rfl) ?_
  refine lv_iload_n hx hb dX3_init_13 rfl (lv_at hl 1 rfl) ?_
  obtain ⟨fs3, e3, k3, lo3, hF⟩ := pV_s hF
  obtain ⟨h3, eh3⟩ : ∃ z, z = hPut h2 a0 (.inr (3, fs3.set 0 (.int p1))) := ⟨_, rfl⟩
  rw [← eh3] at hF
  refine h_putF (C := RX3) (T := TX3) (N := 2) hx hb hts in_X3 tyX3 tyX3_ok nmX3 hown hGr hr hS e3 (by decide) rfl 0 (by decide) (hts _ q165) (fun _ h9 => h9) rfl hin rfl (tyX3_ok 0 (by decide)) rfl rfl k3 lo3 dX3_init_14 (fun H locs hr hS => ?_)
  rw [← eh3] at hr
  replace hc := cst_put hc eh3
  refine lv_iconst (v := 1) hx hb dX3_init_17 (by decide) ?_
  refine lv_istore_n (lv' := [(2, .int 1), (0, .ref a0), (1, .int p1)]) hx hb dX3_init_18 rfl hl (by decide) rfl (fun ls hl => ?_)
  exact lp1 h3 a0 p1 (1 : Int32) 0 hF _ _ _ _ hc hr hS ls (lv_sub hl [1, 2, 0] rfl)

def GX3_isPrime_1 (R : Nat → Hp → Int32 → Int32 → Option (Int32 × Hp)) (n : Nat) (h : Hp) (x0 : Int32) (x1 : Int32) : Option (Int32 × Hp) := if x0 < (x1 * x1) then if x0 < 2 then some ((0 : Int32), h) else some ((1 : Int32), h) else gd (nzB x1) (if (x0 - x0 / x1 * x1) = 0 then some ((0 : Int32), h) else R 1 h x0 (x1 + 1))
def GX3_isPrime_r : Nat → Nat → Hp → Int32 → Int32 → Option (Int32 × Hp)
  | 0 => fun _ _ _ _ => none
  | n + 1 => fun k => match k with  | _ => GX3_isPrime_1 (GX3_isPrime_r n) n
def GX3_isPrime_0 (R : Nat → Hp → Int32 → Int32 → Option (Int32 × Hp)) (n : Nat) (h : Hp) (p0 : Int32) : Option (Int32 × Hp) := R 1 h p0 (2 : Int32)
def GX3_isPrime (n : Nat) (h : Hp) (p0 : Int32) : Option (Int32 × Hp) := GX3_isPrime_0 (GX3_isPrime_r n) n h p0
theorem moX3_isPrime_r (n : Nat) : (∀ (h : Hp) (x0 : Int32) (x1 : Int32), Mo h (GX3_isPrime_r n 1 h x0 x1)) := by
  induction n with
  | zero => exact (fun _ _ _ => mo_no)
  | succ n ih =>
    have ml1 := ih
    exact (fun h x0 x1 => show Mo h (GX3_isPrime_1 (GX3_isPrime_r n) n h x0 x1) from by unfold GX3_isPrime_1; exact mo_ite (mo_ite (mo_ret hle_rf) (mo_ret hle_rf)) (mo_gd (mo_ite (mo_ret hle_rf) (mo_tr hle_rf (ml1 h x0 (x1 + 1))))))
theorem moX3_isPrime (n : Nat) (h : Hp) (p0 : Int32) : Mo h (GX3_isPrime n h p0) := by
  have ml1 := moX3_isPrime_r n
  unfold GX3_isPrime GX3_isPrime_0
  exact mo_tr hle_rf (ml1 h p0 (2 : Int32))
set_option maxHeartbeats 4000000 in
set_option maxRecDepth 100000 in
theorem mgX3_isPrime (l : Launch) (D : HD) (A : Nat → Prop) (h : Hp) (n : Nat) (p0 : Int32) (out : Int32 × Hp) (hF : GX3_isPrime n h p0 = some out) (mc ms : Nat) (hmc : hCc out.2 = hCc h + mc) (hms : hSl out.2 = hSl h + ms) : Met l yX3_isPrime (ws_ yX3_isPrime cX3_isPrime 2 (some .boolean)) ({ frames := 0, cells := mc, slots := ms, locals := 0 }) (va_Pc [.int p0] (hW D A h)) (va_Qi (fun r u => (r, u) = out) (hW D A) A) mc ms A := by
  refine Met.ofW (cc := cX3_isPrime) (maxL := 2) (ret := (some .boolean)) (by decide +kernel) rfl ?_
  intro p e s m args below meth c s₁ B hml hv
  obtain ⟨rfl, hr, hGr⟩ := hv
  have hx := B.exec
  have hb := B.bytes
  have hret := B.returns
  have hts := atoms_spec (ws := (ws_ yX3_isPrime cX3_isPrime 2 (some .boolean))) B.pre
  have hts : ∀ w ∈ lw_all, w.before _ s = true := fun w h => hts w (List.mem_cons_of_mem _ h)
  have hown : s.vm.findClass RX3 = some m.cls := findClass_of_methodNamed B.named
  have hlocks := B.notSynchronized
  have hS : va_S A s.heap s.heap [] := va_S.rf
  have hc : cst h 0 0 h := cst_0
  have hl := lv_entry ([.int p0]) (n := 2) (Nat.le_of_ble_eq_true rfl)
  rw [lg_entry_eq]
  generalize (lg_sl ([.int p0]) ++ List.replicate (2 - (lg_sl ([.int p0])).length) Slot.unset).toArray = ls at hl ⊢
  have hl : lv_has ls 2 [(0, .int p0)] := hl
  obtain ⟨h0, eh0⟩ : ∃ z, z = h := ⟨_, rfl⟩
  rw [← eh0] at hmc hms
  have loop : ∀ n : Nat, (∀ (h : Hp) (x0 : Int32) (x1 : Int32), GX3_isPrime_r n 1 h x0 x1 = some out → ∀ (H : Heap) (locs : List Loc) (cells slots : Nat), cst h0 cells slots h → hR D A h H → va_S A s.heap H locs → ∀ ls : Array Slot, lv_has ls 2 [(0, .int x0), (1, .int x1)] → W p l e (headSpec (ws_ yX3_isPrime cX3_isPrime 2 (some .boolean)) ({ frames := 0, cells := mc, slots := ms, locals := 0 })).room s m ([.int p0] : List Value).toArray below meth c H locs cells slots (MQ below (va_Qi (fun r u => (r, u) = out) (hW D A) A) ([.int p0] : List Value).toArray s mc ms A) (F0 m 2 ls [])) := by
    intro n
    induction n with
    | zero => exact (fun _ _ _ h => nomatch h)
    | succ n ih =>
      have lp1 := ih
      have ml1 := moX3_isPrime_r n
      intro h x0 x1 hF H locs cells slots hc hr hS ls hl
      replace hF : GX3_isPrime_1 (GX3_isPrime_r n) n h x0 x1 = some out := hF
      unfold GX3_isPrime_1 at hF
      refine lv_iload_n hx hb dX3_isPrime_2 rfl (lv_at hl 1 rfl) ?_
      refine lv_iload_n hx hb dX3_isPrime_3 rfl (lv_at hl 1 rfl) ?_
      refine lv_imul hx hb dX3_isPrime_4 ?_
      refine lv_iload_n hx hb dX3_isPrime_5 rfl (lv_at hl 0 rfl) ?_
      refine lv_icmp_gt (tgt := 23) hx hb dX3_isPrime_6 (by decide) (fun c1 => ?_) (fun c1 => ?_)
      · replace hF := it_t c1 hF
        refine lv_iload_n hx hb dX3_isPrime_23 rfl (lv_at hl 0 rfl) ?_
        refine lv_iconst (v := 2) hx hb dX3_isPrime_24 (by decide) ?_
        refine lv_icmp_lt (tgt := 32) hx hb dX3_isPrime_25 (by decide) (fun c2 => ?_) (fun c2 => ?_)
        · replace hF := it_t c2 hF
          refine lv_iconst (v := 0) hx hb dX3_isPrime_32 (by decide) ?_
          have bz := bud_r hc hF hmc hms
          refine W.widen (k := mc) (n := ms) bz.1 bz.2 ?_
          exact W.zret (v := (0 : Int32)) hx hb hret rfl (fun t ht hWm => ⟨⟨(0 : Int32), h, rfl, Option.some.inj hF, h_end hGr hr hS ht hWm⟩, hS.F ht⟩) hS.2.2 dX3_isPrime_33
        · replace hF := it_f c2 hF
          refine lv_iconst (v := 1) hx hb dX3_isPrime_28 (by decide) ?_
          refine lv_goto (tgt := 33) hx hb dX3_isPrime_29 (by decide) ?_
          have bz := bud_r hc hF hmc hms
          refine W.widen (k := mc) (n := ms) bz.1 bz.2 ?_
          exact W.zret (v := (1 : Int32)) hx hb hret rfl (fun t ht hWm => ⟨⟨(1 : Int32), h, rfl, Option.some.inj hF, h_end hGr hr hS ht hWm⟩, hS.F ht⟩) hS.2.2 dX3_isPrime_33
      · replace hF := it_f c1 hF
        refine lv_iload_n hx hb dX3_isPrime_9 rfl (lv_at hl 0 rfl) ?_
        refine lv_iload_n hx hb dX3_isPrime_10 rfl (lv_at hl 1 rfl) ?_
        obtain ⟨g3, hF⟩ := gd_s hF
        refine lv_irem hx hb dX3_isPrime_11 (nz_of g3) ?_
        refine lv_if_ne (tgt := 17) hx hb dX3_isPrime_12 (by decide) (fun c4 => ?_) (fun c4 => ?_)
        · replace hF := it_f c4 hF
          refine lv_iinc (v := (x1 + 1)) (lv' := [(1, .int (x1 + 1)), (0, .int x0)]) hx hb dX3_isPrime_17 hl (k := 1) rfl rfl (by decide) rfl (fun ls hl => ?_)
          refine lv_goto (tgt := 2) hx hb dX3_isPrime_20 (by decide) ?_
          exact lp1 h x0 (x1 + 1) hF _ _ _ _ hc hr hS ls (lv_sub hl [1, 0] rfl)
        · replace hF := it_t c4 hF
          refine lv_iconst (v := 0) hx hb dX3_isPrime_15 (by decide) ?_
          have bz := bud_r hc hF hmc hms
          refine W.widen (k := mc) (n := ms) bz.1 bz.2 ?_
          exact W.zret (v := (0 : Int32)) hx hb hret rfl (fun t ht hWm => ⟨⟨(0 : Int32), h, rfl, Option.some.inj hF, h_end hGr hr hS ht hWm⟩, hS.F ht⟩) hS.2.2 dX3_isPrime_16
  have lp1 := loop n
  have ml1 := moX3_isPrime_r n
  have hc : cst h0 0 0 h := by rw [eh0]; exact cst_0
  unfold GX3_isPrime GX3_isPrime_0 at hF
  refine lv_iconst (v := 2) hx hb dX3_isPrime_0 (by decide) ?_
  refine lv_istore_n (lv' := [(1, .int 2), (0, .int p0)]) hx hb dX3_isPrime_1 rfl hl (by decide) rfl (fun ls hl => ?_)
  exact lp1 h p0 (2 : Int32) hF _ _ _ _ hc hr hS ls (lv_sub hl [1, 0] rfl)

def GX3_has (h : Hp) (a0 : Nat) (p1 : Int32) : Option (Int32 × Hp) := gI h a0 3 0 (fun x1_ => bnd (GX1_inRange h ((p1).toInt64) (0 : Int64) (((x1_ - 1)).toInt64)) (fun r2 u2 => gd (zbB r2) (some (r2, u2))))
theorem moX3_has (h : Hp) (a0 : Nat) (p1 : Int32) : Mo h (GX3_has h a0 p1) := by
  unfold GX3_has
  exact mo_gI (fun x1_ => mo_bnd (moX1_inRange h ((p1).toInt64) (0 : Int64) (((x1_ - 1)).toInt64)) hle_rf (fun r2 u2 m2 => mo_gd (mo_ret m2)))
set_option maxHeartbeats 4000000 in
set_option maxRecDepth 100000 in
theorem mgX3_has (l : Launch) (D : HD) (A : Nat → Prop) (h : Hp) (a0 : Nat) (p1 : Int32) (out : Int32 × Hp) (hF : GX3_has h a0 p1 = some out) (mc ms : Nat) (hmc : hCc out.2 = hCc h + mc) (hms : hSl out.2 = hSl h + ms) : Met l yX3_has (ws_ yX3_has cX3_has 2 (some .boolean)) ({ frames := 1, cells := mc, slots := ms, locals := 25 }) (va_Pc [.ref a0, .int p1] (hW D A h)) (va_Qi (fun r u => (r, u) = out) (hW D A) A) mc ms A := by
  refine Met.ofW (cc := cX3_has) (maxL := 2) (ret := (some .boolean)) (by decide +kernel) rfl ?_
  intro p e s m args below meth c s₁ B hml hv
  obtain ⟨rfl, hr, hGr⟩ := hv
  have hx := B.exec
  have hb := B.bytes
  have hret := B.returns
  have hts := atoms_spec (ws := (ws_ yX3_has cX3_has 2 (some .boolean))) B.pre
  have hts : ∀ w ∈ lw_all, w.before _ s = true := fun w h => hts w (List.mem_cons_of_mem _ h)
  have hown : s.vm.findClass RX3 = some m.cls := findClass_of_methodNamed B.named
  have hlocks := B.notSynchronized
  have hS : va_S A s.heap s.heap [] := va_S.rf
  have hc : cst h 0 0 h := cst_0
  have hl := lv_entry ([.ref a0, .int p1]) (n := 2) (Nat.le_of_ble_eq_true rfl)
  rw [lg_entry_eq]
  generalize (lg_sl ([.ref a0, .int p1]) ++ List.replicate (2 - (lg_sl ([.ref a0, .int p1])).length) Slot.unset).toArray = ls at hl ⊢
  have hl : lv_has ls 2 [(0, .ref a0), (1, .int p1)] := hl
  unfold GX3_has at hF
  refine lv_iload_n hx hb dX3_has_0 rfl (lv_at hl 1 rfl) ?_
  refine lv_i2l (v := (p1).toInt64) hx hb dX3_has_1 rfl ?_
  refine lv_lconst (v := 0) hx hb dX3_has_2 (by decide) ?_
  refine lv_aload_n hx hb dX3_has_3 rfl (lv_at hl 0 rfl) ?_
  obtain ⟨fs1, x1_, e1, f1, hF⟩ := gI_s hF
  refine h_get (C := RX3) (T := TX3) (N := 2) hx hb hts in_X3 hown hGr hr e1 (by decide) rfl 0 (by decide) (hts _ q165) (fun _ h9 => h9) f1 dX3_has_4 ?_
  refine lv_iconst (v := 1) hx hb dX3_has_7 (by decide) ?_
  refine lv_isub hx hb dX3_has_8 ?_
  refine lv_i2l (v := ((x1_ - 1)).toInt64) hx hb dX3_has_9 rfl ?_
  obtain ⟨r2, u2, e2, hF⟩ := bnd_s hF
  have mm2 : hle u2 out.2 := (show Mo u2 _ from mo_gd (mo_ret hle_rf)) _ hF
  obtain ⟨mc2, ms2, hmc2, hms2⟩ := up_of (moX1_inRange h ((p1).toInt64) (0 : Int64) (((x1_ - 1)).toInt64) _ e2)
  replace hc := cst_call hc hmc2 hms2
  refine h_calli (va_runSN (As := [.long ((p1).toInt64), .long (0 : Int64), .long (((x1_ - 1)).toInt64)]) (rest := []) ⟨hx, hb, hml, hown, hts⟩ (mgX1_inRange l D A h ((p1).toInt64) (0 : Int64) (((x1_ - 1)).toInt64) _ e2 mc2 ms2 hmc2 hms2) (⟨va_cnB 3 hts (lw_meth q1422) rfl rfl rfl (hGr.nw q1733 rfl) (hts _ q101) (by decide +kernel) ⟨Nat.le_of_ble_eq_true rfl, Nat.le_of_ble_eq_true rfl⟩, (hts _ q1421), trivial⟩) (h_preS hGr hr hS _) rfl rfl hl.1 rfl (lv_room (Nat.le_of_ble_eq_true rfl)) dX3_has_10 ⟨(bud hc mm2 hmc hms).1, (bud hc mm2 hmc hms).2⟩) hS (fun rr uu H locs hw hr hS => ?_)
  obtain rfl : u2 = uu := (congrArg Prod.snd hw).symm
  obtain rfl : r2 = rr := (congrArg Prod.fst hw).symm
  obtain ⟨g3, hF⟩ := gd_s hF
  have bz := bud_r hc hF hmc hms
  refine W.widen (k := mc) (n := ms) bz.1 bz.2 ?_
  exact W.zret (v := r2) hx hb hret (zb_of g3) (fun t ht hWm => ⟨⟨r2, u2, rfl, Option.some.inj hF, h_end hGr hr hS ht hWm⟩, hS.F ht⟩) hS.2.2 dX3_has_13

def GX3_less (h : Hp) (a0 : Nat) (p1 : Int32) (p2 : Int32) : Option (Int32 × Hp) := gI h a0 3 0 (fun x1_ => gI h a0 3 0 (fun x2_ => gd (nzB x2_) (some ((((p1 - p2) + x1_) - ((p1 - p2) + x1_) / x2_ * x2_), h))))
theorem moX3_less (h : Hp) (a0 : Nat) (p1 : Int32) (p2 : Int32) : Mo h (GX3_less h a0 p1 p2) := by
  unfold GX3_less
  exact mo_gI (fun x1_ => mo_gI (fun x2_ => mo_gd (mo_ret hle_rf)))
set_option maxHeartbeats 4000000 in
set_option maxRecDepth 100000 in
theorem mgX3_less (l : Launch) (D : HD) (A : Nat → Prop) (h : Hp) (a0 : Nat) (p1 : Int32) (p2 : Int32) (out : Int32 × Hp) (hF : GX3_less h a0 p1 p2 = some out) (mc ms : Nat) (hmc : hCc out.2 = hCc h + mc) (hms : hSl out.2 = hSl h + ms) : Met l yX3_less (ws_ yX3_less cX3_less 3 (some .int)) ({ frames := 0, cells := mc, slots := ms, locals := 0 }) (va_Pc [.ref a0, .int p1, .int p2] (hW D A h)) (va_Qi (fun r u => (r, u) = out) (hW D A) A) mc ms A := by
  refine Met.ofW (cc := cX3_less) (maxL := 3) (ret := (some .int)) (by decide +kernel) rfl ?_
  intro p e s m args below meth c s₁ B hml hv
  obtain ⟨rfl, hr, hGr⟩ := hv
  have hx := B.exec
  have hb := B.bytes
  have hret := B.returns
  have hts := atoms_spec (ws := (ws_ yX3_less cX3_less 3 (some .int))) B.pre
  have hts : ∀ w ∈ lw_all, w.before _ s = true := fun w h => hts w (List.mem_cons_of_mem _ h)
  have hown : s.vm.findClass RX3 = some m.cls := findClass_of_methodNamed B.named
  have hlocks := B.notSynchronized
  have hS : va_S A s.heap s.heap [] := va_S.rf
  have hc : cst h 0 0 h := cst_0
  have hl := lv_entry ([.ref a0, .int p1, .int p2]) (n := 3) (Nat.le_of_ble_eq_true rfl)
  rw [lg_entry_eq]
  generalize (lg_sl ([.ref a0, .int p1, .int p2]) ++ List.replicate (3 - (lg_sl ([.ref a0, .int p1, .int p2])).length) Slot.unset).toArray = ls at hl ⊢
  have hl : lv_has ls 3 [(0, .ref a0), (1, .int p1), (2, .int p2)] := hl
  unfold GX3_less at hF
  refine lv_iload_n hx hb dX3_less_0 rfl (lv_at hl 1 rfl) ?_
  refine lv_iload_n hx hb dX3_less_1 rfl (lv_at hl 2 rfl) ?_
  refine lv_isub hx hb dX3_less_2 ?_
  refine lv_aload_n hx hb dX3_less_3 rfl (lv_at hl 0 rfl) ?_
  obtain ⟨fs1, x1_, e1, f1, hF⟩ := gI_s hF
  refine h_get (C := RX3) (T := TX3) (N := 2) hx hb hts in_X3 hown hGr hr e1 (by decide) rfl 0 (by decide) (hts _ q165) (fun _ h9 => h9) f1 dX3_less_4 ?_
  refine lv_iadd hx hb dX3_less_7 ?_
  refine lv_aload_n hx hb dX3_less_8 rfl (lv_at hl 0 rfl) ?_
  obtain ⟨fs2, x2_, e2, f2, hF⟩ := gI_s hF
  refine h_get (C := RX3) (T := TX3) (N := 2) hx hb hts in_X3 hown hGr hr e2 (by decide) rfl 0 (by decide) (hts _ q165) (fun _ h9 => h9) f2 dX3_less_9 ?_
  obtain ⟨g3, hF⟩ := gd_s hF
  refine lv_irem hx hb dX3_less_12 (nz_of g3) ?_
  have bz := bud_r hc hF hmc hms
  refine W.widen (k := mc) (n := ms) bz.1 bz.2 ?_
  exact W.iret (v := (((p1 - p2) + x1_) - ((p1 - p2) + x1_) / x2_ * x2_)) hx hb hret (fun t ht hWm => ⟨⟨(((p1 - p2) + x1_) - ((p1 - p2) + x1_) / x2_ * x2_), h, rfl, Option.some.inj hF, h_end hGr hr hS ht hWm⟩, hS.F ht⟩) hS.2.2 dX3_less_13

def GX3_quotient (h : Hp) (a0 : Nat) (p1 : Int32) (p2 : Int32) : Option (Int32 × Hp) := gQ h a0 3 1 (fun x1_ => aI h x1_ 0 p2 (fun x2_ => gI h a0 3 0 (fun x3_ => gd (nzB x3_) (some (((p1 * x2_) - (p1 * x2_) / x3_ * x3_), h)))))
theorem moX3_quotient (h : Hp) (a0 : Nat) (p1 : Int32) (p2 : Int32) : Mo h (GX3_quotient h a0 p1 p2) := by
  unfold GX3_quotient
  exact mo_gQ (fun x1_ => mo_aI (fun x2_ => mo_gI (fun x3_ => mo_gd (mo_ret hle_rf))))
set_option maxHeartbeats 4000000 in
set_option maxRecDepth 100000 in
theorem mgX3_quotient (l : Launch) (D : HD) (A : Nat → Prop) (h : Hp) (a0 : Nat) (p1 : Int32) (p2 : Int32) (out : Int32 × Hp) (hF : GX3_quotient h a0 p1 p2 = some out) (mc ms : Nat) (hmc : hCc out.2 = hCc h + mc) (hms : hSl out.2 = hSl h + ms) : Met l yX3_quotient (ws_ yX3_quotient cX3_quotient 3 (some .int)) ({ frames := 0, cells := mc, slots := ms, locals := 0 }) (va_Pc [.ref a0, .int p1, .int p2] (hW D A h)) (va_Qi (fun r u => (r, u) = out) (hW D A) A) mc ms A := by
  refine Met.ofW (cc := cX3_quotient) (maxL := 3) (ret := (some .int)) (by decide +kernel) rfl ?_
  intro p e s m args below meth c s₁ B hml hv
  obtain ⟨rfl, hr, hGr⟩ := hv
  have hx := B.exec
  have hb := B.bytes
  have hret := B.returns
  have hts := atoms_spec (ws := (ws_ yX3_quotient cX3_quotient 3 (some .int))) B.pre
  have hts : ∀ w ∈ lw_all, w.before _ s = true := fun w h => hts w (List.mem_cons_of_mem _ h)
  have hown : s.vm.findClass RX3 = some m.cls := findClass_of_methodNamed B.named
  have hlocks := B.notSynchronized
  have hS : va_S A s.heap s.heap [] := va_S.rf
  have hc : cst h 0 0 h := cst_0
  have hl := lv_entry ([.ref a0, .int p1, .int p2]) (n := 3) (Nat.le_of_ble_eq_true rfl)
  rw [lg_entry_eq]
  generalize (lg_sl ([.ref a0, .int p1, .int p2]) ++ List.replicate (3 - (lg_sl ([.ref a0, .int p1, .int p2])).length) Slot.unset).toArray = ls at hl ⊢
  have hl : lv_has ls 3 [(0, .ref a0), (1, .int p1), (2, .int p2)] := hl
  unfold GX3_quotient at hF
  refine lv_iload_n hx hb dX3_quotient_0 rfl (lv_at hl 1 rfl) ?_
  refine lv_aload_n hx hb dX3_quotient_1 rfl (lv_at hl 0 rfl) ?_
  obtain ⟨fs1, x1_, e1, f1, hF⟩ := gQ_s hF
  refine h_get (C := RX3) (T := TX3) (N := 2) hx hb hts in_X3 hown hGr hr e1 (by decide) rfl 1 (by decide) (hts _ q170) (fun _ h9 => h9) f1 dX3_quotient_2 ?_
  refine lv_iload_n hx hb dX3_quotient_5 rfl (lv_at hl 2 rfl) ?_
  obtain ⟨n2, f2, e2, g2, hF⟩ := aI_s hF
  obtain ⟨x2_, ex2⟩ : ∃ z, z = f2 (p2).toNatClampNeg := ⟨_, rfl⟩
  rw [← ex2] at hF
  refine h_iald hx hb hGr hr 0 rfl e2 g2 dX3_quotient_6 ?_
  rw [← ex2]
  refine lv_imul hx hb dX3_quotient_7 ?_
  refine lv_aload_n hx hb dX3_quotient_8 rfl (lv_at hl 0 rfl) ?_
  obtain ⟨fs3, x3_, e3, f3, hF⟩ := gI_s hF
  refine h_get (C := RX3) (T := TX3) (N := 2) hx hb hts in_X3 hown hGr hr e3 (by decide) rfl 0 (by decide) (hts _ q165) (fun _ h9 => h9) f3 dX3_quotient_9 ?_
  obtain ⟨g4, hF⟩ := gd_s hF
  refine lv_irem hx hb dX3_quotient_12 (nz_of g4) ?_
  have bz := bud_r hc hF hmc hms
  refine W.widen (k := mc) (n := ms) bz.1 bz.2 ?_
  exact W.iret (v := ((p1 * x2_) - (p1 * x2_) / x3_ * x3_)) hx hb hret (fun t ht hWm => ⟨⟨((p1 * x2_) - (p1 * x2_) / x3_ * x3_), h, rfl, Option.some.inj hF, h_end hGr hr hS ht hWm⟩, hS.F ht⟩) hS.2.2 dX3_quotient_13

def GX3_lessTimes (h : Hp) (a0 : Nat) (p1 : Int32) (p2 : Int32) (p3 : Int32) : Option (Int32 × Hp) := gI h a0 3 0 (fun x1_ => gI h a0 3 0 (fun x2_ => gd (nzB x2_) (some (((p1 + ((x1_ - p2) * p3)) - (p1 + ((x1_ - p2) * p3)) / x2_ * x2_), h))))
theorem moX3_lessTimes (h : Hp) (a0 : Nat) (p1 : Int32) (p2 : Int32) (p3 : Int32) : Mo h (GX3_lessTimes h a0 p1 p2 p3) := by
  unfold GX3_lessTimes
  exact mo_gI (fun x1_ => mo_gI (fun x2_ => mo_gd (mo_ret hle_rf)))
set_option maxHeartbeats 4000000 in
set_option maxRecDepth 100000 in
theorem mgX3_lessTimes (l : Launch) (D : HD) (A : Nat → Prop) (h : Hp) (a0 : Nat) (p1 : Int32) (p2 : Int32) (p3 : Int32) (out : Int32 × Hp) (hF : GX3_lessTimes h a0 p1 p2 p3 = some out) (mc ms : Nat) (hmc : hCc out.2 = hCc h + mc) (hms : hSl out.2 = hSl h + ms) : Met l yX3_lessTimes (ws_ yX3_lessTimes cX3_lessTimes 4 (some .int)) ({ frames := 0, cells := mc, slots := ms, locals := 0 }) (va_Pc [.ref a0, .int p1, .int p2, .int p3] (hW D A h)) (va_Qi (fun r u => (r, u) = out) (hW D A) A) mc ms A := by
  refine Met.ofW (cc := cX3_lessTimes) (maxL := 4) (ret := (some .int)) (by decide +kernel) rfl ?_
  intro p e s m args below meth c s₁ B hml hv
  obtain ⟨rfl, hr, hGr⟩ := hv
  have hx := B.exec
  have hb := B.bytes
  have hret := B.returns
  have hts := atoms_spec (ws := (ws_ yX3_lessTimes cX3_lessTimes 4 (some .int))) B.pre
  have hts : ∀ w ∈ lw_all, w.before _ s = true := fun w h => hts w (List.mem_cons_of_mem _ h)
  have hown : s.vm.findClass RX3 = some m.cls := findClass_of_methodNamed B.named
  have hlocks := B.notSynchronized
  have hS : va_S A s.heap s.heap [] := va_S.rf
  have hc : cst h 0 0 h := cst_0
  have hl := lv_entry ([.ref a0, .int p1, .int p2, .int p3]) (n := 4) (Nat.le_of_ble_eq_true rfl)
  rw [lg_entry_eq]
  generalize (lg_sl ([.ref a0, .int p1, .int p2, .int p3]) ++ List.replicate (4 - (lg_sl ([.ref a0, .int p1, .int p2, .int p3])).length) Slot.unset).toArray = ls at hl ⊢
  have hl : lv_has ls 4 [(0, .ref a0), (1, .int p1), (2, .int p2), (3, .int p3)] := hl
  unfold GX3_lessTimes at hF
  refine lv_iload_n hx hb dX3_lessTimes_0 rfl (lv_at hl 1 rfl) ?_
  refine lv_aload_n hx hb dX3_lessTimes_1 rfl (lv_at hl 0 rfl) ?_
  obtain ⟨fs1, x1_, e1, f1, hF⟩ := gI_s hF
  refine h_get (C := RX3) (T := TX3) (N := 2) hx hb hts in_X3 hown hGr hr e1 (by decide) rfl 0 (by decide) (hts _ q165) (fun _ h9 => h9) f1 dX3_lessTimes_2 ?_
  refine lv_iload_n hx hb dX3_lessTimes_5 rfl (lv_at hl 2 rfl) ?_
  refine lv_isub hx hb dX3_lessTimes_6 ?_
  refine lv_iload_n hx hb dX3_lessTimes_7 rfl (lv_at hl 3 rfl) ?_
  refine lv_imul hx hb dX3_lessTimes_8 ?_
  refine lv_iadd hx hb dX3_lessTimes_9 ?_
  refine lv_aload_n hx hb dX3_lessTimes_10 rfl (lv_at hl 0 rfl) ?_
  obtain ⟨fs2, x2_, e2, f2, hF⟩ := gI_s hF
  refine h_get (C := RX3) (T := TX3) (N := 2) hx hb hts in_X3 hown hGr hr e2 (by decide) rfl 0 (by decide) (hts _ q165) (fun _ h9 => h9) f2 dX3_lessTimes_11 ?_
  obtain ⟨g3, hF⟩ := gd_s hF
  refine lv_irem hx hb dX3_lessTimes_14 (nz_of g3) ?_
  have bz := bud_r hc hF hmc hms
  refine W.widen (k := mc) (n := ms) bz.1 bz.2 ?_
  exact W.iret (v := ((p1 + ((x1_ - p2) * p3)) - (p1 + ((x1_ - p2) * p3)) / x2_ * x2_)) hx hb hret (fun t ht hWm => ⟨⟨((p1 + ((x1_ - p2) * p3)) - (p1 + ((x1_ - p2) * p3)) / x2_ * x2_), h, rfl, Option.some.inj hF, h_end hGr hr hS ht hWm⟩, hS.F ht⟩) hS.2.2 dX3_lessTimes_15

def GX3_sum_1 (R : Nat → Hp → Nat → Nat → Nat → Int32 → Int32 → Option (Int32 × Hp)) (n : Nat) (h : Hp) (b0 : Nat) (b1 : Nat) (b2 : Nat) (x3 : Int32) (x4 : Int32) : Option (Int32 × Hp) := aL h b1 (fun x1_ => if x1_ ≤ x4 then gI h b0 3 0 (fun x3_ => gd (nzB x3_) (some ((x3 - x3 / x3_ * x3_), h))) else aI h b1 0 x4 (fun x5_ => aI h b2 0 x4 (fun x6_ => R 1 h b0 b1 b2 (x3 + (x5_ * x6_)) (x4 + 1))))
def GX3_sum_r : Nat → Nat → Hp → Nat → Nat → Nat → Int32 → Int32 → Option (Int32 × Hp)
  | 0 => fun _ _ _ _ _ _ _ => none
  | n + 1 => fun k => match k with  | _ => GX3_sum_1 (GX3_sum_r n) n
def GX3_sum_0 (R : Nat → Hp → Nat → Nat → Nat → Int32 → Int32 → Option (Int32 × Hp)) (n : Nat) (h : Hp) (a0 : Nat) (a1 : Nat) (a2 : Nat) : Option (Int32 × Hp) := R 1 h a0 a1 a2 (0 : Int32) (0 : Int32)
def GX3_sum (n : Nat) (h : Hp) (a0 : Nat) (a1 : Nat) (a2 : Nat) : Option (Int32 × Hp) := GX3_sum_0 (GX3_sum_r n) n h a0 a1 a2
theorem moX3_sum_r (n : Nat) : (∀ (h : Hp) (b0 : Nat) (b1 : Nat) (b2 : Nat) (x3 : Int32) (x4 : Int32), Mo h (GX3_sum_r n 1 h b0 b1 b2 x3 x4)) := by
  induction n with
  | zero => exact (fun _ _ _ _ _ _ => mo_no)
  | succ n ih =>
    have ml1 := ih
    exact (fun h b0 b1 b2 x3 x4 => show Mo h (GX3_sum_1 (GX3_sum_r n) n h b0 b1 b2 x3 x4) from by unfold GX3_sum_1; exact mo_aL (fun x1_ => mo_ite (mo_gI (fun x3_ => mo_gd (mo_ret hle_rf))) (mo_aI (fun x5_ => mo_aI (fun x6_ => mo_tr hle_rf (ml1 h b0 b1 b2 (x3 + (x5_ * x6_)) (x4 + 1)))))))
theorem moX3_sum (n : Nat) (h : Hp) (a0 : Nat) (a1 : Nat) (a2 : Nat) : Mo h (GX3_sum n h a0 a1 a2) := by
  have ml1 := moX3_sum_r n
  unfold GX3_sum GX3_sum_0
  exact mo_tr hle_rf (ml1 h a0 a1 a2 (0 : Int32) (0 : Int32))
set_option maxHeartbeats 4000000 in
set_option maxRecDepth 100000 in
theorem mgX3_sum (l : Launch) (D : HD) (A : Nat → Prop) (h : Hp) (n : Nat) (a0 : Nat) (a1 : Nat) (a2 : Nat) (out : Int32 × Hp) (hF : GX3_sum n h a0 a1 a2 = some out) (mc ms : Nat) (hmc : hCc out.2 = hCc h + mc) (hms : hSl out.2 = hSl h + ms) : Met l yX3_sum (ws_ yX3_sum cX3_sum 5 (some .int)) ({ frames := 0, cells := mc, slots := ms, locals := 0 }) (va_Pc [.ref a0, .ref a1, .ref a2] (hW D A h)) (va_Qi (fun r u => (r, u) = out) (hW D A) A) mc ms A := by
  refine Met.ofW (cc := cX3_sum) (maxL := 5) (ret := (some .int)) (by decide +kernel) rfl ?_
  intro p e s m args below meth c s₁ B hml hv
  obtain ⟨rfl, hr, hGr⟩ := hv
  have hx := B.exec
  have hb := B.bytes
  have hret := B.returns
  have hts := atoms_spec (ws := (ws_ yX3_sum cX3_sum 5 (some .int))) B.pre
  have hts : ∀ w ∈ lw_all, w.before _ s = true := fun w h => hts w (List.mem_cons_of_mem _ h)
  have hown : s.vm.findClass RX3 = some m.cls := findClass_of_methodNamed B.named
  have hlocks := B.notSynchronized
  have hS : va_S A s.heap s.heap [] := va_S.rf
  have hc : cst h 0 0 h := cst_0
  have hl := lv_entry ([.ref a0, .ref a1, .ref a2]) (n := 5) (Nat.le_of_ble_eq_true rfl)
  rw [lg_entry_eq]
  generalize (lg_sl ([.ref a0, .ref a1, .ref a2]) ++ List.replicate (5 - (lg_sl ([.ref a0, .ref a1, .ref a2])).length) Slot.unset).toArray = ls at hl ⊢
  have hl : lv_has ls 5 [(0, .ref a0), (1, .ref a1), (2, .ref a2)] := hl
  obtain ⟨h0, eh0⟩ : ∃ z, z = h := ⟨_, rfl⟩
  rw [← eh0] at hmc hms
  have loop : ∀ n : Nat, (∀ (h : Hp) (b0 : Nat) (b1 : Nat) (b2 : Nat) (x3 : Int32) (x4 : Int32), GX3_sum_r n 1 h b0 b1 b2 x3 x4 = some out → ∀ (H : Heap) (locs : List Loc) (cells slots : Nat), cst h0 cells slots h → hR D A h H → va_S A s.heap H locs → ∀ ls : Array Slot, lv_has ls 5 [(0, .ref b0), (1, .ref b1), (2, .ref b2), (3, .int x3), (4, .int x4)] → W p l e (headSpec (ws_ yX3_sum cX3_sum 5 (some .int)) ({ frames := 0, cells := mc, slots := ms, locals := 0 })).room s m ([.ref a0, .ref a1, .ref a2] : List Value).toArray below meth c H locs cells slots (MQ below (va_Qi (fun r u => (r, u) = out) (hW D A) A) ([.ref a0, .ref a1, .ref a2] : List Value).toArray s mc ms A) (F0 m 5 ls [])) := by
    intro n
    induction n with
    | zero => exact (fun _ _ _ _ _ _ h => nomatch h)
    | succ n ih =>
      have lp1 := ih
      have ml1 := moX3_sum_r n
      intro h b0 b1 b2 x3 x4 hF H locs cells slots hc hr hS ls hl
      replace hF : GX3_sum_1 (GX3_sum_r n) n h b0 b1 b2 x3 x4 = some out := hF
      unfold GX3_sum_1 at hF
      refine lv_iload hx hb dX3_sum_5 (lv_at hl 4 rfl) ?_
      refine lv_aload_n hx hb dX3_sum_7 rfl (lv_at hl 1 rfl) ?_
      obtain ⟨k1, y1, e1, g1, hF⟩ := aL_s hF
      obtain ⟨x1_, ex1⟩ : ∃ z, z = Int32.ofNat y1.1 := ⟨_, rfl⟩
      rw [← ex1] at hF
      refine h_alen hx hb hGr hr e1 g1 dX3_sum_8 ?_
      rw [← ex1]
      refine lv_icmp_ge (tgt := 30) hx hb dX3_sum_9 (by decide) (fun c2 => ?_) (fun c2 => ?_)
      · replace hF := it_t c2 hF
        refine lv_iload_n hx hb dX3_sum_30 rfl (lv_at hl 3 rfl) ?_
        refine lv_aload_n hx hb dX3_sum_31 rfl (lv_at hl 0 rfl) ?_
        obtain ⟨fs3, x3_, e3, f3, hF⟩ := gI_s hF
        refine h_get (C := RX3) (T := TX3) (N := 2) hx hb hts in_X3 hown hGr hr e3 (by decide) rfl 0 (by decide) (hts _ q165) (fun _ h9 => h9) f3 dX3_sum_32 ?_
        obtain ⟨g4, hF⟩ := gd_s hF
        refine lv_irem hx hb dX3_sum_35 (nz_of g4) ?_
        have bz := bud_r hc hF hmc hms
        refine W.widen (k := mc) (n := ms) bz.1 bz.2 ?_
        exact W.iret (v := (x3 - x3 / x3_ * x3_)) hx hb hret (fun t ht hWm => ⟨⟨(x3 - x3 / x3_ * x3_), h, rfl, Option.some.inj hF, h_end hGr hr hS ht hWm⟩, hS.F ht⟩) hS.2.2 dX3_sum_36
      · replace hF := it_f c2 hF
        refine lv_iload_n hx hb dX3_sum_12 rfl (lv_at hl 3 rfl) ?_
        refine lv_aload_n hx hb dX3_sum_13 rfl (lv_at hl 1 rfl) ?_
        refine lv_iload hx hb dX3_sum_14 (lv_at hl 4 rfl) ?_
        obtain ⟨n5, f5, e5, g5, hF⟩ := aI_s hF
        obtain ⟨x5_, ex5⟩ : ∃ z, z = f5 (x4).toNatClampNeg := ⟨_, rfl⟩
        rw [← ex5] at hF
        refine h_iald hx hb hGr hr 0 rfl e5 g5 dX3_sum_16 ?_
        rw [← ex5]
        refine lv_aload_n hx hb dX3_sum_17 rfl (lv_at hl 2 rfl) ?_
        refine lv_iload hx hb dX3_sum_18 (lv_at hl 4 rfl) ?_
        obtain ⟨n6, f6, e6, g6, hF⟩ := aI_s hF
        obtain ⟨x6_, ex6⟩ : ∃ z, z = f6 (x4).toNatClampNeg := ⟨_, rfl⟩
        rw [← ex6] at hF
        refine h_iald hx hb hGr hr 0 rfl e6 g6 dX3_sum_20 ?_
        rw [← ex6]
        refine lv_imul hx hb dX3_sum_21 ?_
        refine lv_iadd hx hb dX3_sum_22 ?_
        refine lv_istore_n (lv' := [(3, .int (x3 + (x5_ * x6_))), (0, .ref b0), (1, .ref b1), (2, .ref b2), (4, .int x4)]) hx hb dX3_sum_23 rfl hl (by decide) rfl (fun ls hl => ?_)
        refine lv_iinc (v := (x4 + 1)) (lv' := [(4, .int (x4 + 1)), (3, .int (x3 + (x5_ * x6_))), (0, .ref b0), (1, .ref b1), (2, .ref b2)]) hx hb dX3_sum_24 hl (k := 4) rfl rfl (by decide) rfl (fun ls hl => ?_)
        refine lv_goto (tgt := 5) hx hb dX3_sum_27 (by decide) ?_
        exact lp1 h b0 b1 b2 (x3 + (x5_ * x6_)) (x4 + 1) hF _ _ _ _ hc hr hS ls (lv_sub hl [2, 3, 4, 1, 0] rfl)
  have lp1 := loop n
  have ml1 := moX3_sum_r n
  have hc : cst h0 0 0 h := by rw [eh0]; exact cst_0
  unfold GX3_sum GX3_sum_0 at hF
  refine lv_iconst (v := 0) hx hb dX3_sum_0 (by decide) ?_
  refine lv_istore_n (lv' := [(3, .int 0), (0, .ref a0), (1, .ref a1), (2, .ref a2)]) hx hb dX3_sum_1 rfl hl (by decide) rfl (fun ls hl => ?_)
  refine lv_iconst (v := 0) hx hb dX3_sum_2 (by decide) ?_
  refine lv_istore (lv' := [(4, .int 0), (3, .int 0), (0, .ref a0), (1, .ref a1), (2, .ref a2)]) hx hb dX3_sum_3 hl (by decide) rfl (fun ls hl => ?_)
  exact lp1 h a0 a1 a2 (0 : Int32) (0 : Int32) hF _ _ _ _ hc hr hS ls (lv_sub hl [2, 3, 4, 1, 0] rfl)

def GX3_product (n : Nat) (h : Hp) (a0 : Nat) (a1 : Nat) (a2 : Nat) : Option (Int32 × Hp) := gQ h a1 4 0 (fun x1_ => gQ h a2 4 0 (fun x2_ => gC h a0 3 (bnd (GX3_sum n h a0 x1_ x2_) (fun r3 u3 => some (r3, u3)))))
theorem moX3_product (n : Nat) (h : Hp) (a0 : Nat) (a1 : Nat) (a2 : Nat) : Mo h (GX3_product n h a0 a1 a2) := by
  unfold GX3_product
  exact mo_gQ (fun x1_ => mo_gQ (fun x2_ => mo_gC (mo_bnd (moX3_sum n h a0 x1_ x2_) hle_rf (fun r3 u3 m3 => mo_ret m3))))
set_option maxHeartbeats 4000000 in
set_option maxRecDepth 100000 in
theorem mgX3_product (l : Launch) (D : HD) (A : Nat → Prop) (h : Hp) (n : Nat) (a0 : Nat) (a1 : Nat) (a2 : Nat) (out : Int32 × Hp) (hF : GX3_product n h a0 a1 a2 = some out) (mc ms : Nat) (hmc : hCc out.2 = hCc h + mc) (hms : hSl out.2 = hSl h + ms) : Met l yX3_product (ws_ yX3_product cX3_product 3 (some .int)) ({ frames := 1, cells := mc, slots := ms, locals := 24 }) (va_Pc [.ref a0, .ref a1, .ref a2] (hW D A h)) (va_Qi (fun r u => (r, u) = out) (hW D A) A) mc ms A := by
  refine Met.ofW (cc := cX3_product) (maxL := 3) (ret := (some .int)) (by decide +kernel) rfl ?_
  intro p e s m args below meth c s₁ B hml hv
  obtain ⟨rfl, hr, hGr⟩ := hv
  have hx := B.exec
  have hb := B.bytes
  have hret := B.returns
  have hts := atoms_spec (ws := (ws_ yX3_product cX3_product 3 (some .int))) B.pre
  have hts : ∀ w ∈ lw_all, w.before _ s = true := fun w h => hts w (List.mem_cons_of_mem _ h)
  have hown : s.vm.findClass RX3 = some m.cls := findClass_of_methodNamed B.named
  have hlocks := B.notSynchronized
  have hS : va_S A s.heap s.heap [] := va_S.rf
  have hc : cst h 0 0 h := cst_0
  have hl := lv_entry ([.ref a0, .ref a1, .ref a2]) (n := 3) (Nat.le_of_ble_eq_true rfl)
  rw [lg_entry_eq]
  generalize (lg_sl ([.ref a0, .ref a1, .ref a2]) ++ List.replicate (3 - (lg_sl ([.ref a0, .ref a1, .ref a2])).length) Slot.unset).toArray = ls at hl ⊢
  have hl : lv_has ls 3 [(0, .ref a0), (1, .ref a1), (2, .ref a2)] := hl
  unfold GX3_product at hF
  refine lv_aload_n hx hb dX3_product_0 rfl (lv_at hl 0 rfl) ?_
  refine lv_aload_n hx hb dX3_product_1 rfl (lv_at hl 1 rfl) ?_
  obtain ⟨fs1, x1_, e1, f1, hF⟩ := gQ_s hF
  refine h_getN (C := RX4) (T := TX4) (N := 1) hx hb hts in_X4 hown hGr hr e1 (by decide) rfl 0 (by decide) (va_Nw.use rfl (hGr.nw q556 rfl)) (fun _ h9 => h9) f1 dX3_product_2 ?_
  refine lv_aload_n hx hb dX3_product_5 rfl (lv_at hl 2 rfl) ?_
  obtain ⟨fs2, x2_, e2, f2, hF⟩ := gQ_s hF
  refine h_getN (C := RX4) (T := TX4) (N := 1) hx hb hts in_X4 hown hGr hr e2 (by decide) rfl 0 (by decide) (va_Nw.use rfl (hGr.nw q556 rfl)) (fun _ h9 => h9) f2 dX3_product_6 ?_
  obtain ⟨fc3, ec3, hF⟩ := gC_s hF
  obtain ⟨r3, u3, e3, hF⟩ := bnd_s hF
  have mm3 : hle u3 out.2 := (show Mo u3 _ from mo_ret hle_rf) _ hF
  obtain ⟨mc3, ms3, hmc3, hms3⟩ := up_of (moX3_sum n h a0 x1_ x2_ _ e3)
  replace hc := cst_call hc hmc3 hms3
  refine h_calli (va_runV (As := [.ref x1_, .ref x2_]) (rest := []) ⟨hx, hb, hml, hown, hts⟩ (mgX3_sum l D A h n a0 x1_ x2_ _ e3 mc3 ms3 hmc3 hms3) (cwV 2 hts (lw_V q972 q974 qs15 q103 q975) rfl rfl rfl (by decide +kernel) ⟨Nat.le_of_ble_eq_true rfl, Nat.le_of_ble_eq_true rfl⟩) (h_preV hGr hr hS ec3 (by decide) (q := (RX3, TX3, 2)) rfl _) rfl rfl hl.1 rfl (lv_room (Nat.le_of_ble_eq_true rfl)) dX3_product_9 ⟨(bud hc mm3 hmc hms).1, (bud hc mm3 hmc hms).2⟩) hS (fun rr uu H locs hw hr hS => ?_)
  obtain rfl : u3 = uu := (congrArg Prod.snd hw).symm
  obtain rfl : r3 = rr := (congrArg Prod.fst hw).symm
  have bz := bud_r hc hF hmc hms
  refine W.widen (k := mc) (n := ms) bz.1 bz.2 ?_
  exact W.iret (v := r3) hx hb hret (fun t ht hWm => ⟨⟨r3, u3, rfl, Option.some.inj hF, h_end hGr hr hS ht hWm⟩, hS.F ht⟩) hS.2.2 dX3_product_12

def GX3_without_1 (R : Nat → Hp → Nat → Nat → Int32 → Nat → Nat → Int32 → Option (Nat × Hp)) (n : Nat) (h : Hp) (b0 : Nat) (b1 : Nat) (x2 : Int32) (b3 : Nat) (b4 : Nat) (x5 : Int32) : Option (Nat × Hp) := aL h b4 (fun x3_ => if x3_ ≤ x5 then nW h 4 [.null] 1 (fun a5_ h5 => bnd (GX4_init h5 a5_ b4) (fun r6 u6 => some (a5_, u6))) else gQ h b1 4 0 (fun x7_ => aI h x7_ 0 x5 (fun x8_ => gQ h b3 4 0 (fun x9_ => aI h x9_ 0 x5 (fun x10_ => gC h b0 3 (bnd (GX3_lessTimes h b0 x8_ x2 x10_) (fun r11 u11 => sI u11 b4 0 x5 r11 (fun h12 => R 1 h12 b0 b1 x2 b3 b4 (x5 + 1)))))))))
def GX3_without_r : Nat → Nat → Hp → Nat → Nat → Int32 → Nat → Nat → Int32 → Option (Nat × Hp)
  | 0 => fun _ _ _ _ _ _ _ _ => none
  | n + 1 => fun k => match k with  | _ => GX3_without_1 (GX3_without_r n) n
def GX3_without_0 (R : Nat → Hp → Nat → Nat → Int32 → Nat → Nat → Int32 → Option (Nat × Hp)) (n : Nat) (h : Hp) (a0 : Nat) (a1 : Nat) (p2 : Int32) (a3 : Nat) : Option (Nat × Hp) := gC h a1 4 (bnd (GX4_size h a1) (fun r1 u1 => nA u1 0 r1 (fun a2_ h2 => R 1 h2 a0 a1 p2 a3 a2_ (0 : Int32))))
def GX3_without (n : Nat) (h : Hp) (a0 : Nat) (a1 : Nat) (p2 : Int32) (a3 : Nat) : Option (Nat × Hp) := GX3_without_0 (GX3_without_r n) n h a0 a1 p2 a3
theorem moX3_without_r (n : Nat) : (∀ (h : Hp) (b0 : Nat) (b1 : Nat) (x2 : Int32) (b3 : Nat) (b4 : Nat) (x5 : Int32), Mo h (GX3_without_r n 1 h b0 b1 x2 b3 b4 x5)) := by
  induction n with
  | zero => exact (fun _ _ _ _ _ _ _ => mo_no)
  | succ n ih =>
    have ml1 := ih
    exact (fun h b0 b1 x2 b3 b4 x5 => show Mo h (GX3_without_1 (GX3_without_r n) n h b0 b1 x2 b3 b4 x5) from by unfold GX3_without_1; exact mo_aL (fun x3_ => mo_ite (mo_nW hle_rf (fun a5_ h5 m5 => mo_bnd (moX4_init h5 a5_ b4) m5 (fun r6 u6 m6 => mo_ret m6))) (mo_gQ (fun x7_ => mo_aI (fun x8_ => mo_gQ (fun x9_ => mo_aI (fun x10_ => mo_gC (mo_bnd (moX3_lessTimes h b0 x8_ x2 x10_) hle_rf (fun r11 u11 m11 => mo_sI m11 (fun h12 m12 => mo_tr m12 (ml1 h12 b0 b1 x2 b3 b4 (x5 + 1))))))))))))
theorem moX3_without (n : Nat) (h : Hp) (a0 : Nat) (a1 : Nat) (p2 : Int32) (a3 : Nat) : Mo h (GX3_without n h a0 a1 p2 a3) := by
  have ml1 := moX3_without_r n
  unfold GX3_without GX3_without_0
  exact mo_gC (mo_bnd (moX4_size h a1) hle_rf (fun r1 u1 m1 => mo_nA m1 (fun a2_ h2 m2 => mo_tr m2 (ml1 h2 a0 a1 p2 a3 a2_ (0 : Int32)))))
set_option maxHeartbeats 4000000 in
set_option maxRecDepth 100000 in
theorem mgX3_without (l : Launch) (D : HD) (A : Nat → Prop) (h : Hp) (n : Nat) (a0 : Nat) (a1 : Nat) (p2 : Int32) (a3 : Nat) (out : Nat × Hp) (hF : GX3_without n h a0 a1 p2 a3 = some out) (mc ms : Nat) (hmc : hCc out.2 = hCc h + mc) (hms : hSl out.2 = hSl h + ms) : Met l yX3_without (ws_ yX3_without cX3_without 6 (some (.object "ExactChains$Vector"))) ({ frames := 2, cells := mc, slots := ms, locals := 41 }) (va_Pc [.ref a0, .ref a1, .int p2, .ref a3] (hW D A h)) (va_Qr (fun _ : Hp => True) (fun u r t => (r, u) = out ∧ hW D A u t) A) mc ms A := by
  refine Met.ofW (cc := cX3_without) (maxL := 6) (ret := (some (.object "ExactChains$Vector"))) (by decide +kernel) rfl ?_
  intro p e s m args below meth c s₁ B hml hv
  obtain ⟨rfl, hr, hGr⟩ := hv
  have hx := B.exec
  have hb := B.bytes
  have hret := B.returns
  have hts := atoms_spec (ws := (ws_ yX3_without cX3_without 6 (some (.object "ExactChains$Vector")))) B.pre
  have hts : ∀ w ∈ lw_all, w.before _ s = true := fun w h => hts w (List.mem_cons_of_mem _ h)
  have hown : s.vm.findClass RX3 = some m.cls := findClass_of_methodNamed B.named
  have hlocks := B.notSynchronized
  have hS : va_S A s.heap s.heap [] := va_S.rf
  have hc : cst h 0 0 h := cst_0
  have hl := lv_entry ([.ref a0, .ref a1, .int p2, .ref a3]) (n := 6) (Nat.le_of_ble_eq_true rfl)
  rw [lg_entry_eq]
  generalize (lg_sl ([.ref a0, .ref a1, .int p2, .ref a3]) ++ List.replicate (6 - (lg_sl ([.ref a0, .ref a1, .int p2, .ref a3])).length) Slot.unset).toArray = ls at hl ⊢
  have hl : lv_has ls 6 [(0, .ref a0), (1, .ref a1), (2, .int p2), (3, .ref a3)] := hl
  obtain ⟨h0, eh0⟩ : ∃ z, z = h := ⟨_, rfl⟩
  rw [← eh0] at hmc hms
  have loop : ∀ n : Nat, (∀ (h : Hp) (b0 : Nat) (b1 : Nat) (x2 : Int32) (b3 : Nat) (b4 : Nat) (x5 : Int32), GX3_without_r n 1 h b0 b1 x2 b3 b4 x5 = some out → ∀ (H : Heap) (locs : List Loc) (cells slots : Nat), cst h0 cells slots h → hR D A h H → va_S A s.heap H locs → ∀ ls : Array Slot, lv_has ls 6 [(0, .ref b0), (1, .ref b1), (2, .int x2), (3, .ref b3), (4, .ref b4), (5, .int x5)] → W p l e (headSpec (ws_ yX3_without cX3_without 6 (some (.object "ExactChains$Vector"))) ({ frames := 2, cells := mc, slots := ms, locals := 41 })).room s m ([.ref a0, .ref a1, .int p2, .ref a3] : List Value).toArray below meth c H locs cells slots (MQ below (va_Qr (fun _ : Hp => True) (fun u r t => (r, u) = out ∧ hW D A u t) A) ([.ref a0, .ref a1, .int p2, .ref a3] : List Value).toArray s mc ms A) (F0 m 11 ls [])) := by
    intro n
    induction n with
    | zero => exact (fun _ _ _ _ _ _ _ h => nomatch h)
    | succ n ih =>
      have lp1 := ih
      have ml1 := moX3_without_r n
      intro h b0 b1 x2 b3 b4 x5 hF H locs cells slots hc hr hS ls hl
      replace hF : GX3_without_1 (GX3_without_r n) n h b0 b1 x2 b3 b4 x5 = some out := hF
      unfold GX3_without_1 at hF
      refine lv_iload hx hb dX3_without_11 (lv_at hl 5 rfl) ?_
      refine lv_aload hx hb dX3_without_13 (lv_at hl 4 rfl) ?_
      obtain ⟨k3, y3, e3, g3, hF⟩ := aL_s hF
      obtain ⟨x3_, ex3⟩ : ∃ z, z = Int32.ofNat y3.1 := ⟨_, rfl⟩
      rw [← ex3] at hF
      refine h_alen hx hb hGr hr e3 g3 dX3_without_15 ?_
      rw [← ex3]
      refine lv_icmp_ge (tgt := 49) hx hb dX3_without_16 (by decide) (fun c4 => ?_) (fun c4 => ?_)
      · replace hF := it_t c4 hF
        obtain ⟨a5_, h5, ea5, eh5, hF⟩ := nW_s hF
        have mm5 : hle h5 out.2 := (show Mo h5 _ from mo_bnd (moX4_init h5 a5_ b4) hle_rf (fun r6 u6 m6 => mo_ret m6)) _ hF
        replace hc := cst_new hc eh5
        refine h_new (C := RX4) (T := TX4) (N := 1) hx hb hts in_X4 tyX4 tyX4_ok hown (hts _ q1045) (hts _ q550) (hts _ q123) hGr hr hS (ci := 4) (by decide) rfl (fs := [.null]) (fun j hj => by match j, hj with | 0, _ => rfl | j + 1, hj => omega) (bud hc mm5 hmc hms).1 (bud hc mm5 hmc hms).2 dX3_without_49 (fun H hr hS => ?_)
        rw [← eh5] at hr
        rw [← ea5]
        refine lv_dup hx hb dX3_without_52 rfl ?_
        refine lv_aload hx hb dX3_without_53 (lv_at hl 4 rfl) ?_
        obtain ⟨r6, u6, e6, hF⟩ := bnd_s hF
        have mm6 : hle u6 out.2 := (show Mo u6 _ from mo_ret hle_rf) _ hF
        obtain ⟨mc6, ms6, hmc6, hms6⟩ := up_of (moX4_init h5 a5_ b4 _ e6)
        replace hc := cst_call hc hmc6 hms6
        refine h_callv (va_runI (As := [.ref b4]) (rest := [.ref a5_]) ⟨hx, hb, hml, hown, hts⟩ (mgX4_init l D A h5 a5_ b4 _ e6 mc6 ms6 hmc6 hms6) (cwI 1 hts (lw_meth q553) rfl rfl rfl (hts _ q123) (hts _ q1046) (hts _ q552) rfl (by decide +kernel) ⟨Nat.le_of_ble_eq_true rfl, Nat.le_of_ble_eq_true rfl⟩) (h_preS hGr hr hS _) rfl rfl hl.1 rfl (lv_room (Nat.le_of_ble_eq_true rfl)) dX3_without_55 ⟨(bud hc mm6 hmc hms).1, (bud hc mm6 hmc hms).2⟩) hS (fun uu H locs hw hr hS => ?_)
        obtain rfl : u6 = uu := (congrArg Prod.snd hw).symm
        have bz := bud_r hc hF hmc hms
        refine W.widen (k := mc) (n := ms) bz.1 bz.2 ?_
        exact W.aret (v := .ref a5_) hx hb hret (Or.inl ⟨_, rfl⟩) (Or.inr ⟨_, rfl⟩) (fun t ht hWm => ⟨⟨u6, a5_, rfl, trivial, Option.some.inj hF, h_end hGr hr hS ht hWm⟩, hS.F ht⟩) hS.2.2 dX3_without_58
      · replace hF := it_f c4 hF
        refine lv_aload hx hb dX3_without_19 (lv_at hl 4 rfl) ?_
        refine lv_iload hx hb dX3_without_21 (lv_at hl 5 rfl) ?_
        refine lv_aload_n hx hb dX3_without_23 rfl (lv_at hl 0 rfl) ?_
        refine lv_aload_n hx hb dX3_without_24 rfl (lv_at hl 1 rfl) ?_
        obtain ⟨fs7, x7_, e7, f7, hF⟩ := gQ_s hF
        refine h_getN (C := RX4) (T := TX4) (N := 1) hx hb hts in_X4 hown hGr hr e7 (by decide) rfl 0 (by decide) (va_Nw.use rfl (hGr.nw q556 rfl)) (fun _ h9 => h9) f7 dX3_without_25 ?_
        refine lv_iload hx hb dX3_without_28 (lv_at hl 5 rfl) ?_
        obtain ⟨n8, f8, e8, g8, hF⟩ := aI_s hF
        obtain ⟨x8_, ex8⟩ : ∃ z, z = f8 (x5).toNatClampNeg := ⟨_, rfl⟩
        rw [← ex8] at hF
        refine h_iald hx hb hGr hr 0 rfl e8 g8 dX3_without_30 ?_
        rw [← ex8]
        refine lv_iload_n hx hb dX3_without_31 rfl (lv_at hl 2 rfl) ?_
        refine lv_aload_n hx hb dX3_without_32 rfl (lv_at hl 3 rfl) ?_
        obtain ⟨fs9, x9_, e9, f9, hF⟩ := gQ_s hF
        refine h_getN (C := RX4) (T := TX4) (N := 1) hx hb hts in_X4 hown hGr hr e9 (by decide) rfl 0 (by decide) (va_Nw.use rfl (hGr.nw q556 rfl)) (fun _ h9 => h9) f9 dX3_without_33 ?_
        refine lv_iload hx hb dX3_without_36 (lv_at hl 5 rfl) ?_
        obtain ⟨n10, f10, e10, g10, hF⟩ := aI_s hF
        obtain ⟨x10_, ex10⟩ : ∃ z, z = f10 (x5).toNatClampNeg := ⟨_, rfl⟩
        rw [← ex10] at hF
        refine h_iald hx hb hGr hr 0 rfl e10 g10 dX3_without_38 ?_
        rw [← ex10]
        obtain ⟨fc11, ec11, hF⟩ := gC_s hF
        obtain ⟨r11, u11, e11, hF⟩ := bnd_s hF
        have mm11 : hle u11 out.2 := (show Mo u11 _ from mo_sI hle_rf (fun h12 m12 => mo_tr m12 (ml1 h12 b0 b1 x2 b3 b4 (x5 + 1)))) _ hF
        obtain ⟨mc11, ms11, hmc11, hms11⟩ := up_of (moX3_lessTimes h b0 x8_ x2 x10_ _ e11)
        replace hc := cst_call hc hmc11 hms11
        refine h_calli (va_runV (As := [.int x8_, .int x2, .int x10_]) (rest := [.int x5, .ref b4]) ⟨hx, hb, hml, hown, hts⟩ (mgX3_lessTimes l D A h b0 x8_ x2 x10_ _ e11 mc11 ms11 hmc11 hms11) (cwV 3 hts (lw_V q1041 q1042 q1043 q103 q1044) rfl rfl rfl (by decide +kernel) ⟨Nat.le_of_ble_eq_true rfl, Nat.le_of_ble_eq_true rfl⟩) (h_preV hGr hr hS ec11 (by decide) (q := (RX3, TX3, 2)) rfl _) rfl rfl hl.1 rfl (lv_room (Nat.le_of_ble_eq_true rfl)) dX3_without_39 ⟨(bud hc mm11 hmc hms).1, (bud hc mm11 hmc hms).2⟩) hS (fun rr uu H locs hw hr hS => ?_)
        obtain rfl : u11 = uu := (congrArg Prod.snd hw).symm
        obtain rfl : r11 = rr := (congrArg Prod.fst hw).symm
        obtain ⟨n12, f12, e12, lo12, g12, hF⟩ := sI_s hF
        obtain ⟨h12, eh12⟩ : ∃ z, z = hPut u11 b4 (.inl (0, n12, .inl (upd f12 (x5).toNatClampNeg r11))) := ⟨_, rfl⟩
        rw [← eh12] at hF
        refine h_iast hx hb hGr hr hS 0 rfl e12 (x := r11) g12 lo12 dX3_without_42 (fun H locs hr hS => ?_)
        rw [← eh12] at hr
        replace hc := cst_put hc eh12
        refine lv_iinc (v := (x5 + 1)) (lv' := [(5, .int (x5 + 1)), (0, .ref b0), (1, .ref b1), (2, .int x2), (3, .ref b3), (4, .ref b4)]) hx hb dX3_without_43 hl (k := 5) rfl rfl (by decide) rfl (fun ls hl => ?_)
        refine lv_goto (tgt := 11) hx hb dX3_without_46 (by decide) ?_
        exact lp1 h12 b0 b1 x2 b3 b4 (x5 + 1) hF _ _ _ _ hc hr hS ls (lv_sub hl [1, 2, 3, 4, 5, 0] rfl)
  have lp1 := loop n
  have ml1 := moX3_without_r n
  have hc : cst h0 0 0 h := by rw [eh0]; exact cst_0
  unfold GX3_without GX3_without_0 at hF
  refine lv_aload_n hx hb dX3_without_0 rfl (lv_at hl 1 rfl) ?_
  obtain ⟨fc1, ec1, hF⟩ := gC_s hF
  obtain ⟨r1, u1, e1, hF⟩ := bnd_s hF
  have mm1 : hle u1 out.2 := (show Mo u1 _ from mo_nA hle_rf (fun a2_ h2 m2 => mo_tr m2 (ml1 h2 a0 a1 p2 a3 a2_ (0 : Int32)))) _ hF
  obtain ⟨mc1, ms1, hmc1, hms1⟩ := up_of (moX4_size h a1 _ e1)
  replace hc := cst_call hc hmc1 hms1
  refine h_calli (va_runV (As := []) (rest := []) ⟨hx, hb, hml, hown, hts⟩ (mgX4_size l D A h a1 _ e1 mc1 ms1 hmc1 hms1) (cwV 0 hts (lw_V q1037 q1038 q1039 q123 q1040) rfl rfl rfl (by decide +kernel) ⟨Nat.le_of_ble_eq_true rfl, Nat.le_of_ble_eq_true rfl⟩) (h_preV hGr hr hS ec1 (by decide) (q := (RX4, TX4, 1)) rfl _) rfl rfl hl.1 rfl (lv_room (Nat.le_of_ble_eq_true rfl)) dX3_without_1 ⟨(bud hc mm1 hmc hms).1, (bud hc mm1 hmc hms).2⟩) hS (fun rr uu H locs hw hr hS => ?_)
  obtain rfl : u1 = uu := (congrArg Prod.snd hw).symm
  obtain rfl : r1 = rr := (congrArg Prod.fst hw).symm
  obtain ⟨a2_, h2, ea2, eh2, g2, hF⟩ := nA_s hF
  have mm2 : hle h2 out.2 := (show Mo h2 _ from mo_tr hle_rf (ml1 h2 a0 a1 p2 a3 a2_ (0 : Int32))) _ hF
  replace hc := cst_new hc eh2
  refine h_newI hx hb (hts _ q177) hGr hr hS g2 (bud hc mm2 hmc hms).1 (bud hc mm2 hmc hms).2 dX3_without_4 (fun H hr hS => ?_)
  rw [← eh2] at hr
  rw [← ea2]
  refine lv_astore (lv' := [(4, .ref a2_), (0, .ref a0), (1, .ref a1), (2, .int p2), (3, .ref a3)]) hx hb dX3_without_6 hl (by decide) rfl (fun ls hl => ?_)
  refine lv_iconst (v := 0) hx hb dX3_without_8 (by decide) ?_
  refine lv_istore (lv' := [(5, .int 0), (4, .ref a2_), (0, .ref a0), (1, .ref a1), (2, .int p2), (3, .ref a3)]) hx hb dX3_without_9 hl (by decide) rfl (fun ls hl => ?_)
  exact lp1 h2 a0 a1 p2 a3 a2_ (0 : Int32) hF _ _ _ _ hc hr hS ls (lv_sub hl [2, 3, 4, 5, 1, 0] rfl)

def GX3_times_1 (R : Nat → Hp → Nat → Nat → Nat → Nat → Int32 → Option (Nat × Hp)) (n : Nat) (h : Hp) (b0 : Nat) (b1 : Nat) (b2 : Nat) (b3 : Nat) (x4 : Int32) : Option (Nat × Hp) := aL h b3 (fun x3_ => if x3_ ≤ x4 then nW h 4 [.null] 1 (fun a5_ h5 => bnd (GX4_init h5 a5_ b3) (fun r6 u6 => some (a5_, u6))) else aQ h b1 4 x4 (fun x7_ => gQ h b2 4 0 (fun x8_ => gC h b0 3 (bnd (GX3_sum n h b0 x7_ x8_) (fun r9 u9 => sI u9 b3 0 x4 r9 (fun h10 => R 1 h10 b0 b1 b2 b3 (x4 + 1)))))))
def GX3_times_r : Nat → Nat → Hp → Nat → Nat → Nat → Nat → Int32 → Option (Nat × Hp)
  | 0 => fun _ _ _ _ _ _ _ => none
  | n + 1 => fun k => match k with  | _ => GX3_times_1 (GX3_times_r n) n
def GX3_times_0 (R : Nat → Hp → Nat → Nat → Nat → Nat → Int32 → Option (Nat × Hp)) (n : Nat) (h : Hp) (a0 : Nat) (a1 : Nat) (a2 : Nat) : Option (Nat × Hp) := gC h a2 4 (bnd (GX4_size h a2) (fun r1 u1 => nA u1 0 r1 (fun a2_ h2 => R 1 h2 a0 a1 a2 a2_ (0 : Int32))))
def GX3_times (n : Nat) (h : Hp) (a0 : Nat) (a1 : Nat) (a2 : Nat) : Option (Nat × Hp) := GX3_times_0 (GX3_times_r n) n h a0 a1 a2
theorem moX3_times_r (n : Nat) : (∀ (h : Hp) (b0 : Nat) (b1 : Nat) (b2 : Nat) (b3 : Nat) (x4 : Int32), Mo h (GX3_times_r n 1 h b0 b1 b2 b3 x4)) := by
  induction n with
  | zero => exact (fun _ _ _ _ _ _ => mo_no)
  | succ n ih =>
    have ml1 := ih
    exact (fun h b0 b1 b2 b3 x4 => show Mo h (GX3_times_1 (GX3_times_r n) n h b0 b1 b2 b3 x4) from by unfold GX3_times_1; exact mo_aL (fun x3_ => mo_ite (mo_nW hle_rf (fun a5_ h5 m5 => mo_bnd (moX4_init h5 a5_ b3) m5 (fun r6 u6 m6 => mo_ret m6))) (mo_aQ (fun x7_ => mo_gQ (fun x8_ => mo_gC (mo_bnd (moX3_sum n h b0 x7_ x8_) hle_rf (fun r9 u9 m9 => mo_sI m9 (fun h10 m10 => mo_tr m10 (ml1 h10 b0 b1 b2 b3 (x4 + 1))))))))))
theorem moX3_times (n : Nat) (h : Hp) (a0 : Nat) (a1 : Nat) (a2 : Nat) : Mo h (GX3_times n h a0 a1 a2) := by
  have ml1 := moX3_times_r n
  unfold GX3_times GX3_times_0
  exact mo_gC (mo_bnd (moX4_size h a2) hle_rf (fun r1 u1 m1 => mo_nA m1 (fun a2_ h2 m2 => mo_tr m2 (ml1 h2 a0 a1 a2 a2_ (0 : Int32)))))
set_option maxHeartbeats 4000000 in
set_option maxRecDepth 100000 in
theorem mgX3_times (l : Launch) (D : HD) (A : Nat → Prop) (h : Hp) (n : Nat) (a0 : Nat) (a1 : Nat) (a2 : Nat) (out : Nat × Hp) (hF : GX3_times n h a0 a1 a2 = some out) (mc ms : Nat) (hmc : hCc out.2 = hCc h + mc) (hms : hSl out.2 = hSl h + ms) : Met l yX3_times (ws_ yX3_times cX3_times 5 (some (.object "ExactChains$Vector"))) ({ frames := 2, cells := mc, slots := ms, locals := 41 }) (va_Pc [.ref a0, .ref a1, .ref a2] (hW D A h)) (va_Qr (fun _ : Hp => True) (fun u r t => (r, u) = out ∧ hW D A u t) A) mc ms A := by
  refine Met.ofW (cc := cX3_times) (maxL := 5) (ret := (some (.object "ExactChains$Vector"))) (by decide +kernel) rfl ?_
  intro p e s m args below meth c s₁ B hml hv
  obtain ⟨rfl, hr, hGr⟩ := hv
  have hx := B.exec
  have hb := B.bytes
  have hret := B.returns
  have hts := atoms_spec (ws := (ws_ yX3_times cX3_times 5 (some (.object "ExactChains$Vector")))) B.pre
  have hts : ∀ w ∈ lw_all, w.before _ s = true := fun w h => hts w (List.mem_cons_of_mem _ h)
  have hown : s.vm.findClass RX3 = some m.cls := findClass_of_methodNamed B.named
  have hlocks := B.notSynchronized
  have hS : va_S A s.heap s.heap [] := va_S.rf
  have hc : cst h 0 0 h := cst_0
  have hl := lv_entry ([.ref a0, .ref a1, .ref a2]) (n := 5) (Nat.le_of_ble_eq_true rfl)
  rw [lg_entry_eq]
  generalize (lg_sl ([.ref a0, .ref a1, .ref a2]) ++ List.replicate (5 - (lg_sl ([.ref a0, .ref a1, .ref a2])).length) Slot.unset).toArray = ls at hl ⊢
  have hl : lv_has ls 5 [(0, .ref a0), (1, .ref a1), (2, .ref a2)] := hl
  obtain ⟨h0, eh0⟩ : ∃ z, z = h := ⟨_, rfl⟩
  rw [← eh0] at hmc hms
  have loop : ∀ n : Nat, (∀ (h : Hp) (b0 : Nat) (b1 : Nat) (b2 : Nat) (b3 : Nat) (x4 : Int32), GX3_times_r n 1 h b0 b1 b2 b3 x4 = some out → ∀ (H : Heap) (locs : List Loc) (cells slots : Nat), cst h0 cells slots h → hR D A h H → va_S A s.heap H locs → ∀ ls : Array Slot, lv_has ls 5 [(0, .ref b0), (1, .ref b1), (2, .ref b2), (3, .ref b3), (4, .int x4)] → W p l e (headSpec (ws_ yX3_times cX3_times 5 (some (.object "ExactChains$Vector"))) ({ frames := 2, cells := mc, slots := ms, locals := 41 })).room s m ([.ref a0, .ref a1, .ref a2] : List Value).toArray below meth c H locs cells slots (MQ below (va_Qr (fun _ : Hp => True) (fun u r t => (r, u) = out ∧ hW D A u t) A) ([.ref a0, .ref a1, .ref a2] : List Value).toArray s mc ms A) (F0 m 10 ls [])) := by
    intro n
    induction n with
    | zero => exact (fun _ _ _ _ _ _ h => nomatch h)
    | succ n ih =>
      have lp1 := ih
      have ml1 := moX3_times_r n
      intro h b0 b1 b2 b3 x4 hF H locs cells slots hc hr hS ls hl
      replace hF : GX3_times_1 (GX3_times_r n) n h b0 b1 b2 b3 x4 = some out := hF
      unfold GX3_times_1 at hF
      refine lv_iload hx hb dX3_times_10 (lv_at hl 4 rfl) ?_
      refine lv_aload_n hx hb dX3_times_12 rfl (lv_at hl 3 rfl) ?_
      obtain ⟨k3, y3, e3, g3, hF⟩ := aL_s hF
      obtain ⟨x3_, ex3⟩ : ∃ z, z = Int32.ofNat y3.1 := ⟨_, rfl⟩
      rw [← ex3] at hF
      refine h_alen hx hb hGr hr e3 g3 dX3_times_13 ?_
      rw [← ex3]
      refine lv_icmp_ge (tgt := 39) hx hb dX3_times_14 (by decide) (fun c4 => ?_) (fun c4 => ?_)
      · replace hF := it_t c4 hF
        obtain ⟨a5_, h5, ea5, eh5, hF⟩ := nW_s hF
        have mm5 : hle h5 out.2 := (show Mo h5 _ from mo_bnd (moX4_init h5 a5_ b3) hle_rf (fun r6 u6 m6 => mo_ret m6)) _ hF
        replace hc := cst_new hc eh5
        refine h_new (C := RX4) (T := TX4) (N := 1) hx hb hts in_X4 tyX4 tyX4_ok hown (hts _ q1045) (hts _ q550) (hts _ q123) hGr hr hS (ci := 4) (by decide) rfl (fs := [.null]) (fun j hj => by match j, hj with | 0, _ => rfl | j + 1, hj => omega) (bud hc mm5 hmc hms).1 (bud hc mm5 hmc hms).2 dX3_times_39 (fun H hr hS => ?_)
        rw [← eh5] at hr
        rw [← ea5]
        refine lv_dup hx hb dX3_times_42 rfl ?_
        refine lv_aload_n hx hb dX3_times_43 rfl (lv_at hl 3 rfl) ?_
        obtain ⟨r6, u6, e6, hF⟩ := bnd_s hF
        have mm6 : hle u6 out.2 := (show Mo u6 _ from mo_ret hle_rf) _ hF
        obtain ⟨mc6, ms6, hmc6, hms6⟩ := up_of (moX4_init h5 a5_ b3 _ e6)
        replace hc := cst_call hc hmc6 hms6
        refine h_callv (va_runI (As := [.ref b3]) (rest := [.ref a5_]) ⟨hx, hb, hml, hown, hts⟩ (mgX4_init l D A h5 a5_ b3 _ e6 mc6 ms6 hmc6 hms6) (cwI 1 hts (lw_meth q553) rfl rfl rfl (hts _ q123) (hts _ q1046) (hts _ q552) rfl (by decide +kernel) ⟨Nat.le_of_ble_eq_true rfl, Nat.le_of_ble_eq_true rfl⟩) (h_preS hGr hr hS _) rfl rfl hl.1 rfl (lv_room (Nat.le_of_ble_eq_true rfl)) dX3_times_44 ⟨(bud hc mm6 hmc hms).1, (bud hc mm6 hmc hms).2⟩) hS (fun uu H locs hw hr hS => ?_)
        obtain rfl : u6 = uu := (congrArg Prod.snd hw).symm
        have bz := bud_r hc hF hmc hms
        refine W.widen (k := mc) (n := ms) bz.1 bz.2 ?_
        exact W.aret (v := .ref a5_) hx hb hret (Or.inl ⟨_, rfl⟩) (Or.inr ⟨_, rfl⟩) (fun t ht hWm => ⟨⟨u6, a5_, rfl, trivial, Option.some.inj hF, h_end hGr hr hS ht hWm⟩, hS.F ht⟩) hS.2.2 dX3_times_47
      · replace hF := it_f c4 hF
        refine lv_aload_n hx hb dX3_times_17 rfl (lv_at hl 3 rfl) ?_
        refine lv_iload hx hb dX3_times_18 (lv_at hl 4 rfl) ?_
        refine lv_aload_n hx hb dX3_times_20 rfl (lv_at hl 0 rfl) ?_
        refine lv_aload_n hx hb dX3_times_21 rfl (lv_at hl 1 rfl) ?_
        refine lv_iload hx hb dX3_times_22 (lv_at hl 4 rfl) ?_
        obtain ⟨n7, f7, x7_, e7, g7, ex7, hF⟩ := aQ_s hF
        refine h_aald hx hb hGr hr (by decide) e7 g7 dX3_times_24 (v := .ref x7_) (by rw [ex7]; rfl) ?_
        refine lv_aload_n hx hb dX3_times_25 rfl (lv_at hl 2 rfl) ?_
        obtain ⟨fs8, x8_, e8, f8, hF⟩ := gQ_s hF
        refine h_getN (C := RX4) (T := TX4) (N := 1) hx hb hts in_X4 hown hGr hr e8 (by decide) rfl 0 (by decide) (va_Nw.use rfl (hGr.nw q556 rfl)) (fun _ h9 => h9) f8 dX3_times_26 ?_
        obtain ⟨fc9, ec9, hF⟩ := gC_s hF
        obtain ⟨r9, u9, e9, hF⟩ := bnd_s hF
        have mm9 : hle u9 out.2 := (show Mo u9 _ from mo_sI hle_rf (fun h10 m10 => mo_tr m10 (ml1 h10 b0 b1 b2 b3 (x4 + 1)))) _ hF
        obtain ⟨mc9, ms9, hmc9, hms9⟩ := up_of (moX3_sum n h b0 x7_ x8_ _ e9)
        replace hc := cst_call hc hmc9 hms9
        refine h_calli (va_runV (As := [.ref x7_, .ref x8_]) (rest := [.int x4, .ref b3]) ⟨hx, hb, hml, hown, hts⟩ (mgX3_sum l D A h n b0 x7_ x8_ _ e9 mc9 ms9 hmc9 hms9) (cwV 2 hts (lw_V q972 q974 qs15 q103 q975) rfl rfl rfl (by decide +kernel) ⟨Nat.le_of_ble_eq_true rfl, Nat.le_of_ble_eq_true rfl⟩) (h_preV hGr hr hS ec9 (by decide) (q := (RX3, TX3, 2)) rfl _) rfl rfl hl.1 rfl (lv_room (Nat.le_of_ble_eq_true rfl)) dX3_times_29 ⟨(bud hc mm9 hmc hms).1, (bud hc mm9 hmc hms).2⟩) hS (fun rr uu H locs hw hr hS => ?_)
        obtain rfl : u9 = uu := (congrArg Prod.snd hw).symm
        obtain rfl : r9 = rr := (congrArg Prod.fst hw).symm
        obtain ⟨n10, f10, e10, lo10, g10, hF⟩ := sI_s hF
        obtain ⟨h10, eh10⟩ : ∃ z, z = hPut u9 b3 (.inl (0, n10, .inl (upd f10 (x4).toNatClampNeg r9))) := ⟨_, rfl⟩
        rw [← eh10] at hF
        refine h_iast hx hb hGr hr hS 0 rfl e10 (x := r9) g10 lo10 dX3_times_32 (fun H locs hr hS => ?_)
        rw [← eh10] at hr
        replace hc := cst_put hc eh10
        refine lv_iinc (v := (x4 + 1)) (lv' := [(4, .int (x4 + 1)), (0, .ref b0), (1, .ref b1), (2, .ref b2), (3, .ref b3)]) hx hb dX3_times_33 hl (k := 4) rfl rfl (by decide) rfl (fun ls hl => ?_)
        refine lv_goto (tgt := 10) hx hb dX3_times_36 (by decide) ?_
        exact lp1 h10 b0 b1 b2 b3 (x4 + 1) hF _ _ _ _ hc hr hS ls (lv_sub hl [1, 2, 3, 4, 0] rfl)
  have lp1 := loop n
  have ml1 := moX3_times_r n
  have hc : cst h0 0 0 h := by rw [eh0]; exact cst_0
  unfold GX3_times GX3_times_0 at hF
  refine lv_aload_n hx hb dX3_times_0 rfl (lv_at hl 2 rfl) ?_
  obtain ⟨fc1, ec1, hF⟩ := gC_s hF
  obtain ⟨r1, u1, e1, hF⟩ := bnd_s hF
  have mm1 : hle u1 out.2 := (show Mo u1 _ from mo_nA hle_rf (fun a2_ h2 m2 => mo_tr m2 (ml1 h2 a0 a1 a2 a2_ (0 : Int32)))) _ hF
  obtain ⟨mc1, ms1, hmc1, hms1⟩ := up_of (moX4_size h a2 _ e1)
  replace hc := cst_call hc hmc1 hms1
  refine h_calli (va_runV (As := []) (rest := []) ⟨hx, hb, hml, hown, hts⟩ (mgX4_size l D A h a2 _ e1 mc1 ms1 hmc1 hms1) (cwV 0 hts (lw_V q1037 q1038 q1039 q123 q1040) rfl rfl rfl (by decide +kernel) ⟨Nat.le_of_ble_eq_true rfl, Nat.le_of_ble_eq_true rfl⟩) (h_preV hGr hr hS ec1 (by decide) (q := (RX4, TX4, 1)) rfl _) rfl rfl hl.1 rfl (lv_room (Nat.le_of_ble_eq_true rfl)) dX3_times_1 ⟨(bud hc mm1 hmc hms).1, (bud hc mm1 hmc hms).2⟩) hS (fun rr uu H locs hw hr hS => ?_)
  obtain rfl : u1 = uu := (congrArg Prod.snd hw).symm
  obtain rfl : r1 = rr := (congrArg Prod.fst hw).symm
  obtain ⟨a2_, h2, ea2, eh2, g2, hF⟩ := nA_s hF
  have mm2 : hle h2 out.2 := (show Mo h2 _ from mo_tr hle_rf (ml1 h2 a0 a1 a2 a2_ (0 : Int32))) _ hF
  replace hc := cst_new hc eh2
  refine h_newI hx hb (hts _ q177) hGr hr hS g2 (bud hc mm2 hmc hms).1 (bud hc mm2 hmc hms).2 dX3_times_4 (fun H hr hS => ?_)
  rw [← eh2] at hr
  rw [← ea2]
  refine lv_astore_n (lv' := [(3, .ref a2_), (0, .ref a0), (1, .ref a1), (2, .ref a2)]) hx hb dX3_times_6 rfl hl (by decide) rfl (fun ls hl => ?_)
  refine lv_iconst (v := 0) hx hb dX3_times_7 (by decide) ?_
  refine lv_istore (lv' := [(4, .int 0), (3, .ref a2_), (0, .ref a0), (1, .ref a1), (2, .ref a2)]) hx hb dX3_times_8 hl (by decide) rfl (fun ls hl => ?_)
  exact lp1 h2 a0 a1 a2 a2_ (0 : Int32) hF _ _ _ _ hc hr hS ls (lv_sub hl [2, 3, 4, 1, 0] rfl)

def GX10_pivot_1 (R : Nat → Hp → Nat → Int32 → Int32 → Option (Int32 × Hp)) (n : Nat) (h : Hp) (b0 : Nat) (x1 : Int32) (x2 : Int32) : Option (Int32 × Hp) := gQ h b0 9 1 (fun x2_ => aL h x2_ (fun x3_ => if x3_ ≤ x2 then some (((-1) : Int32), h) else gQ h b0 9 1 (fun x5_ => aQ h x5_ 4 x2 (fun x6_ => aI h x6_ 0 x1 (fun x7_ => if x7_ = 0 then R 1 h b0 x1 (x2 + 1) else some (x2, h))))))
def GX10_pivot_r : Nat → Nat → Hp → Nat → Int32 → Int32 → Option (Int32 × Hp)
  | 0 => fun _ _ _ _ _ => none
  | n + 1 => fun k => match k with  | _ => GX10_pivot_1 (GX10_pivot_r n) n
def GX10_pivot_0 (R : Nat → Hp → Nat → Int32 → Int32 → Option (Int32 × Hp)) (n : Nat) (h : Hp) (a0 : Nat) (p1 : Int32) : Option (Int32 × Hp) := gI h a0 9 2 (fun x1_ => R 1 h a0 p1 x1_)
def GX10_pivot (n : Nat) (h : Hp) (a0 : Nat) (p1 : Int32) : Option (Int32 × Hp) := GX10_pivot_0 (GX10_pivot_r n) n h a0 p1
theorem moX10_pivot_r (n : Nat) : (∀ (h : Hp) (b0 : Nat) (x1 : Int32) (x2 : Int32), Mo h (GX10_pivot_r n 1 h b0 x1 x2)) := by
  induction n with
  | zero => exact (fun _ _ _ _ => mo_no)
  | succ n ih =>
    have ml1 := ih
    exact (fun h b0 x1 x2 => show Mo h (GX10_pivot_1 (GX10_pivot_r n) n h b0 x1 x2) from by unfold GX10_pivot_1; exact mo_gQ (fun x2_ => mo_aL (fun x3_ => mo_ite (mo_ret hle_rf) (mo_gQ (fun x5_ => mo_aQ (fun x6_ => mo_aI (fun x7_ => mo_ite (mo_tr hle_rf (ml1 h b0 x1 (x2 + 1))) (mo_ret hle_rf))))))))
theorem moX10_pivot (n : Nat) (h : Hp) (a0 : Nat) (p1 : Int32) : Mo h (GX10_pivot n h a0 p1) := by
  have ml1 := moX10_pivot_r n
  unfold GX10_pivot GX10_pivot_0
  exact mo_gI (fun x1_ => mo_tr hle_rf (ml1 h a0 p1 x1_))
set_option maxHeartbeats 4000000 in
set_option maxRecDepth 100000 in
theorem mgX10_pivot (l : Launch) (D : HD) (A : Nat → Prop) (h : Hp) (n : Nat) (a0 : Nat) (p1 : Int32) (out : Int32 × Hp) (hF : GX10_pivot n h a0 p1 = some out) (mc ms : Nat) (hmc : hCc out.2 = hCc h + mc) (hms : hSl out.2 = hSl h + ms) : Met l yX10_pivot (ws_ yX10_pivot cX10_pivot 3 (some .int)) ({ frames := 0, cells := mc, slots := ms, locals := 0 }) (va_Pc [.ref a0, .int p1] (hW D A h)) (va_Qi (fun r u => (r, u) = out) (hW D A) A) mc ms A := by
  refine Met.ofW (cc := cX10_pivot) (maxL := 3) (ret := (some .int)) (by decide +kernel) rfl ?_
  intro p e s m args below meth c s₁ B hml hv
  obtain ⟨rfl, hr, hGr⟩ := hv
  have hx := B.exec
  have hb := B.bytes
  have hret := B.returns
  have hts := atoms_spec (ws := (ws_ yX10_pivot cX10_pivot 3 (some .int))) B.pre
  have hts : ∀ w ∈ lw_all, w.before _ s = true := fun w h => hts w (List.mem_cons_of_mem _ h)
  have hown : s.vm.findClass RX10 = some m.cls := findClass_of_methodNamed B.named
  have hlocks := B.notSynchronized
  have hS : va_S A s.heap s.heap [] := va_S.rf
  have hc : cst h 0 0 h := cst_0
  have hl := lv_entry ([.ref a0, .int p1]) (n := 3) (Nat.le_of_ble_eq_true rfl)
  rw [lg_entry_eq]
  generalize (lg_sl ([.ref a0, .int p1]) ++ List.replicate (3 - (lg_sl ([.ref a0, .int p1])).length) Slot.unset).toArray = ls at hl ⊢
  have hl : lv_has ls 3 [(0, .ref a0), (1, .int p1)] := hl
  obtain ⟨h0, eh0⟩ : ∃ z, z = h := ⟨_, rfl⟩
  rw [← eh0] at hmc hms
  have loop : ∀ n : Nat, (∀ (h : Hp) (b0 : Nat) (x1 : Int32) (x2 : Int32), GX10_pivot_r n 1 h b0 x1 x2 = some out → ∀ (H : Heap) (locs : List Loc) (cells slots : Nat), cst h0 cells slots h → hR D A h H → va_S A s.heap H locs → ∀ ls : Array Slot, lv_has ls 3 [(0, .ref b0), (1, .int x1), (2, .int x2)] → W p l e (headSpec (ws_ yX10_pivot cX10_pivot 3 (some .int)) ({ frames := 0, cells := mc, slots := ms, locals := 0 })).room s m ([.ref a0, .int p1] : List Value).toArray below meth c H locs cells slots (MQ below (va_Qi (fun r u => (r, u) = out) (hW D A) A) ([.ref a0, .int p1] : List Value).toArray s mc ms A) (F0 m 5 ls [])) := by
    intro n
    induction n with
    | zero => exact (fun _ _ _ _ h => nomatch h)
    | succ n ih =>
      have lp1 := ih
      have ml1 := moX10_pivot_r n
      intro h b0 x1 x2 hF H locs cells slots hc hr hS ls hl
      replace hF : GX10_pivot_1 (GX10_pivot_r n) n h b0 x1 x2 = some out := hF
      unfold GX10_pivot_1 at hF
      refine lv_iload_n hx hb dX10_pivot_5 rfl (lv_at hl 2 rfl) ?_
      refine lv_aload_n hx hb dX10_pivot_6 rfl (lv_at hl 0 rfl) ?_
      obtain ⟨fs2, x2_, e2, f2, hF⟩ := gQ_s hF
      refine h_get (C := RX10) (T := TX10) (N := 4) hx hb hts in_X10 hown hGr hr e2 (by decide) rfl 1 (by decide) (hts _ q1111) (fun _ h9 => h9) f2 dX10_pivot_7 ?_
      obtain ⟨k3, y3, e3, g3, hF⟩ := aL_s hF
      obtain ⟨x3_, ex3⟩ : ∃ z, z = Int32.ofNat y3.1 := ⟨_, rfl⟩
      rw [← ex3] at hF
      refine h_alen hx hb hGr hr e3 g3 dX10_pivot_10 ?_
      rw [← ex3]
      refine lv_icmp_ge (tgt := 33) hx hb dX10_pivot_11 (by decide) (fun c4 => ?_) (fun c4 => ?_)
      · replace hF := it_t c4 hF
        refine lv_iconst (v := (-1)) hx hb dX10_pivot_33 (by decide) ?_
        have bz := bud_r hc hF hmc hms
        refine W.widen (k := mc) (n := ms) bz.1 bz.2 ?_
        exact W.iret (v := ((-1) : Int32)) hx hb hret (fun t ht hWm => ⟨⟨((-1) : Int32), h, rfl, Option.some.inj hF, h_end hGr hr hS ht hWm⟩, hS.F ht⟩) hS.2.2 dX10_pivot_34
      · replace hF := it_f c4 hF
        refine lv_aload_n hx hb dX10_pivot_14 rfl (lv_at hl 0 rfl) ?_
        obtain ⟨fs5, x5_, e5, f5, hF⟩ := gQ_s hF
        refine h_get (C := RX10) (T := TX10) (N := 4) hx hb hts in_X10 hown hGr hr e5 (by decide) rfl 1 (by decide) (hts _ q1111) (fun _ h9 => h9) f5 dX10_pivot_15 ?_
        refine lv_iload_n hx hb dX10_pivot_18 rfl (lv_at hl 2 rfl) ?_
        obtain ⟨n6, f6, x6_, e6, g6, ex6, hF⟩ := aQ_s hF
        refine h_aald hx hb hGr hr (by decide) e6 g6 dX10_pivot_19 (v := .ref x6_) (by rw [ex6]; rfl) ?_
        refine lv_iload_n hx hb dX10_pivot_20 rfl (lv_at hl 1 rfl) ?_
        obtain ⟨n7, f7, e7, g7, hF⟩ := aI_s hF
        obtain ⟨x7_, ex7⟩ : ∃ z, z = f7 (x1).toNatClampNeg := ⟨_, rfl⟩
        rw [← ex7] at hF
        refine h_iald hx hb hGr hr 0 rfl e7 g7 dX10_pivot_21 ?_
        rw [← ex7]
        refine lv_if_eq (tgt := 27) hx hb dX10_pivot_22 (by decide) (fun c8 => ?_) (fun c8 => ?_)
        · replace hF := it_t c8 hF
          refine lv_iinc (v := (x2 + 1)) (lv' := [(2, .int (x2 + 1)), (0, .ref b0), (1, .int x1)]) hx hb dX10_pivot_27 hl (k := 2) rfl rfl (by decide) rfl (fun ls hl => ?_)
          refine lv_goto (tgt := 5) hx hb dX10_pivot_30 (by decide) ?_
          exact lp1 h b0 x1 (x2 + 1) hF _ _ _ _ hc hr hS ls (lv_sub hl [1, 2, 0] rfl)
        · replace hF := it_f c8 hF
          refine lv_iload_n hx hb dX10_pivot_25 rfl (lv_at hl 2 rfl) ?_
          have bz := bud_r hc hF hmc hms
          refine W.widen (k := mc) (n := ms) bz.1 bz.2 ?_
          exact W.iret (v := x2) hx hb hret (fun t ht hWm => ⟨⟨x2, h, rfl, Option.some.inj hF, h_end hGr hr hS ht hWm⟩, hS.F ht⟩) hS.2.2 dX10_pivot_26
  have lp1 := loop n
  have ml1 := moX10_pivot_r n
  have hc : cst h0 0 0 h := by rw [eh0]; exact cst_0
  unfold GX10_pivot GX10_pivot_0 at hF
  refine lv_aload_n hx hb dX10_pivot_0 rfl (lv_at hl 0 rfl) ?_
  obtain ⟨fs1, x1_, e1, f1, hF⟩ := gI_s hF
  refine h_get (C := RX10) (T := TX10) (N := 4) hx hb hts in_X10 hown hGr hr e1 (by decide) rfl 2 (by decide) (hts _ q1112) (fun _ h9 => h9) f1 dX10_pivot_1 ?_
  refine lv_istore_n (lv' := [(2, .int x1_), (0, .ref a0), (1, .int p1)]) hx hb dX10_pivot_4 rfl hl (by decide) rfl (fun ls hl => ?_)
  exact lp1 h a0 p1 x1_ hF _ _ _ _ hc hr hS ls (lv_sub hl [1, 2, 0] rfl)

def GX10_takes_1 (R : Nat → Hp → Nat → Nat → Int32 → Nat → Int32 → Option (Int32 × Hp)) (n : Nat) (h : Hp) (b0 : Nat) (b1 : Nat) (x2 : Int32) (b3 : Nat) (x4 : Int32) : Option (Int32 × Hp) := aL h b1 (fun x1_ => if x1_ ≤ x4 then some (0, h) else if x2 = 0 then some (0, h) else gQ h b0 9 0 (fun x4_ => aI h b1 0 x4 (fun x5_ => aI h b3 0 x4 (fun x6_ => gC h x4_ 3 (bnd (GX3_lessTimes h x4_ x5_ x2 x6_) (fun r7 u7 => sI u7 b1 0 x4 r7 (fun h8 => R 1 h8 b0 b1 x2 b3 (x4 + 1))))))))
def GX10_takes_r : Nat → Nat → Hp → Nat → Nat → Int32 → Nat → Int32 → Option (Int32 × Hp)
  | 0 => fun _ _ _ _ _ _ _ => none
  | n + 1 => fun k => match k with  | _ => GX10_takes_1 (GX10_takes_r n) n
def GX10_takes_0 (R : Nat → Hp → Nat → Nat → Int32 → Nat → Int32 → Option (Int32 × Hp)) (n : Nat) (h : Hp) (a0 : Nat) (a1 : Nat) (p2 : Int32) (a3 : Nat) : Option (Int32 × Hp) := R 1 h a0 a1 p2 a3 (0 : Int32)
def GX10_takes (n : Nat) (h : Hp) (a0 : Nat) (a1 : Nat) (p2 : Int32) (a3 : Nat) : Option (Int32 × Hp) := GX10_takes_0 (GX10_takes_r n) n h a0 a1 p2 a3
theorem moX10_takes_r (n : Nat) : (∀ (h : Hp) (b0 : Nat) (b1 : Nat) (x2 : Int32) (b3 : Nat) (x4 : Int32), Mo h (GX10_takes_r n 1 h b0 b1 x2 b3 x4)) := by
  induction n with
  | zero => exact (fun _ _ _ _ _ _ => mo_no)
  | succ n ih =>
    have ml1 := ih
    exact (fun h b0 b1 x2 b3 x4 => show Mo h (GX10_takes_1 (GX10_takes_r n) n h b0 b1 x2 b3 x4) from by unfold GX10_takes_1; exact mo_aL (fun x1_ => mo_ite (mo_ret hle_rf) (mo_ite (mo_ret hle_rf) (mo_gQ (fun x4_ => mo_aI (fun x5_ => mo_aI (fun x6_ => mo_gC (mo_bnd (moX3_lessTimes h x4_ x5_ x2 x6_) hle_rf (fun r7 u7 m7 => mo_sI m7 (fun h8 m8 => mo_tr m8 (ml1 h8 b0 b1 x2 b3 (x4 + 1))))))))))))
theorem moX10_takes (n : Nat) (h : Hp) (a0 : Nat) (a1 : Nat) (p2 : Int32) (a3 : Nat) : Mo h (GX10_takes n h a0 a1 p2 a3) := by
  have ml1 := moX10_takes_r n
  unfold GX10_takes GX10_takes_0
  exact mo_tr hle_rf (ml1 h a0 a1 p2 a3 (0 : Int32))
set_option maxHeartbeats 4000000 in
set_option maxRecDepth 100000 in
theorem mgX10_takes (l : Launch) (D : HD) (A : Nat → Prop) (h : Hp) (n : Nat) (a0 : Nat) (a1 : Nat) (p2 : Int32) (a3 : Nat) (out : Int32 × Hp) (hF : GX10_takes n h a0 a1 p2 a3 = some out) (mc ms : Nat) (hmc : hCc out.2 = hCc h + mc) (hms : hSl out.2 = hSl h + ms) : Met l yX10_takes (ws_ yX10_takes cX10_takes 5 none) ({ frames := 1, cells := mc, slots := ms, locals := 23 }) (va_Pc [.ref a0, .ref a1, .int p2, .ref a3] (hW D A h)) (va_Qv (fun u => (0, u) = out) (hW D A) A) mc ms A := by
  refine Met.ofW (cc := cX10_takes) (maxL := 5) (ret := none) (by decide +kernel) rfl ?_
  intro p e s m args below meth c s₁ B hml hv
  obtain ⟨rfl, hr, hGr⟩ := hv
  have hx := B.exec
  have hb := B.bytes
  have hret := B.returns
  have hts := atoms_spec (ws := (ws_ yX10_takes cX10_takes 5 none)) B.pre
  have hts : ∀ w ∈ lw_all, w.before _ s = true := fun w h => hts w (List.mem_cons_of_mem _ h)
  have hown : s.vm.findClass RX10 = some m.cls := findClass_of_methodNamed B.named
  have hlocks := B.notSynchronized
  have hS : va_S A s.heap s.heap [] := va_S.rf
  have hc : cst h 0 0 h := cst_0
  have hl := lv_entry ([.ref a0, .ref a1, .int p2, .ref a3]) (n := 5) (Nat.le_of_ble_eq_true rfl)
  rw [lg_entry_eq]
  generalize (lg_sl ([.ref a0, .ref a1, .int p2, .ref a3]) ++ List.replicate (5 - (lg_sl ([.ref a0, .ref a1, .int p2, .ref a3])).length) Slot.unset).toArray = ls at hl ⊢
  have hl : lv_has ls 5 [(0, .ref a0), (1, .ref a1), (2, .int p2), (3, .ref a3)] := hl
  obtain ⟨h0, eh0⟩ : ∃ z, z = h := ⟨_, rfl⟩
  rw [← eh0] at hmc hms
  have loop : ∀ n : Nat, (∀ (h : Hp) (b0 : Nat) (b1 : Nat) (x2 : Int32) (b3 : Nat) (x4 : Int32), GX10_takes_r n 1 h b0 b1 x2 b3 x4 = some out → ∀ (H : Heap) (locs : List Loc) (cells slots : Nat), cst h0 cells slots h → hR D A h H → va_S A s.heap H locs → ∀ ls : Array Slot, lv_has ls 5 [(0, .ref b0), (1, .ref b1), (2, .int x2), (3, .ref b3), (4, .int x4)] → W p l e (headSpec (ws_ yX10_takes cX10_takes 5 none) ({ frames := 1, cells := mc, slots := ms, locals := 23 })).room s m ([.ref a0, .ref a1, .int p2, .ref a3] : List Value).toArray below meth c H locs cells slots (MQ below (va_Qv (fun u => (0, u) = out) (hW D A) A) ([.ref a0, .ref a1, .int p2, .ref a3] : List Value).toArray s mc ms A) (F0 m 3 ls [])) := by
    intro n
    induction n with
    | zero => exact (fun _ _ _ _ _ _ h => nomatch h)
    | succ n ih =>
      have lp1 := ih
      have ml1 := moX10_takes_r n
      intro h b0 b1 x2 b3 x4 hF H locs cells slots hc hr hS ls hl
      replace hF : GX10_takes_1 (GX10_takes_r n) n h b0 b1 x2 b3 x4 = some out := hF
      unfold GX10_takes_1 at hF
      refine lv_iload hx hb dX10_takes_3 (lv_at hl 4 rfl) ?_
      refine lv_aload_n hx hb dX10_takes_5 rfl (lv_at hl 1 rfl) ?_
      obtain ⟨k1, y1, e1, g1, hF⟩ := aL_s hF
      obtain ⟨x1_, ex1⟩ : ∃ z, z = Int32.ofNat y1.1 := ⟨_, rfl⟩
      rw [← ex1] at hF
      refine h_alen hx hb hGr hr e1 g1 dX10_takes_6 ?_
      rw [← ex1]
      refine lv_icmp_ge (tgt := 40) hx hb dX10_takes_7 (by decide) (fun c2 => ?_) (fun c2 => ?_)
      · replace hF := it_t c2 hF
        have bz := bud_r hc hF hmc hms
        refine W.widen (k := mc) (n := ms) bz.1 bz.2 ?_
        exact W.vret hx hb hret (fun t ht hWm => ⟨⟨h, rfl, Option.some.inj hF, h_end hGr hr hS ht hWm⟩, hS.F ht⟩) hS.2.2 dX10_takes_40
      · replace hF := it_f c2 hF
        refine lv_iload_n hx hb dX10_takes_10 rfl (lv_at hl 2 rfl) ?_
        refine lv_if_eq (tgt := 40) hx hb dX10_takes_11 (by decide) (fun c3 => ?_) (fun c3 => ?_)
        · replace hF := it_t c3 hF
          have bz := bud_r hc hF hmc hms
          refine W.widen (k := mc) (n := ms) bz.1 bz.2 ?_
          exact W.vret hx hb hret (fun t ht hWm => ⟨⟨h, rfl, Option.some.inj hF, h_end hGr hr hS ht hWm⟩, hS.F ht⟩) hS.2.2 dX10_takes_40
        · replace hF := it_f c3 hF
          refine lv_aload_n hx hb dX10_takes_14 rfl (lv_at hl 1 rfl) ?_
          refine lv_iload hx hb dX10_takes_15 (lv_at hl 4 rfl) ?_
          refine lv_aload_n hx hb dX10_takes_17 rfl (lv_at hl 0 rfl) ?_
          obtain ⟨fs4, x4_, e4, f4, hF⟩ := gQ_s hF
          refine h_get (C := RX10) (T := TX10) (N := 4) hx hb hts in_X10 hown hGr hr e4 (by decide) rfl 0 (by decide) (hts _ q1110) (fun _ h9 => h9) f4 dX10_takes_18 ?_
          refine lv_aload_n hx hb dX10_takes_21 rfl (lv_at hl 1 rfl) ?_
          refine lv_iload hx hb dX10_takes_22 (lv_at hl 4 rfl) ?_
          obtain ⟨n5, f5, e5, g5, hF⟩ := aI_s hF
          obtain ⟨x5_, ex5⟩ : ∃ z, z = f5 (x4).toNatClampNeg := ⟨_, rfl⟩
          rw [← ex5] at hF
          refine h_iald hx hb hGr hr 0 rfl e5 g5 dX10_takes_24 ?_
          rw [← ex5]
          refine lv_iload_n hx hb dX10_takes_25 rfl (lv_at hl 2 rfl) ?_
          refine lv_aload_n hx hb dX10_takes_26 rfl (lv_at hl 3 rfl) ?_
          refine lv_iload hx hb dX10_takes_27 (lv_at hl 4 rfl) ?_
          obtain ⟨n6, f6, e6, g6, hF⟩ := aI_s hF
          obtain ⟨x6_, ex6⟩ : ∃ z, z = f6 (x4).toNatClampNeg := ⟨_, rfl⟩
          rw [← ex6] at hF
          refine h_iald hx hb hGr hr 0 rfl e6 g6 dX10_takes_29 ?_
          rw [← ex6]
          obtain ⟨fc7, ec7, hF⟩ := gC_s hF
          obtain ⟨r7, u7, e7, hF⟩ := bnd_s hF
          have mm7 : hle u7 out.2 := (show Mo u7 _ from mo_sI hle_rf (fun h8 m8 => mo_tr m8 (ml1 h8 b0 b1 x2 b3 (x4 + 1)))) _ hF
          obtain ⟨mc7, ms7, hmc7, hms7⟩ := up_of (moX3_lessTimes h x4_ x5_ x2 x6_ _ e7)
          replace hc := cst_call hc hmc7 hms7
          refine h_calli (va_runV (As := [.int x5_, .int x2, .int x6_]) (rest := [.int x4, .ref b1]) ⟨hx, hb, hml, hown, hts⟩ (mgX3_lessTimes l D A h x4_ x5_ x2 x6_ _ e7 mc7 ms7 hmc7 hms7) (cwV 3 hts (lw_V q1109 q1042 q1043 q103 q1044) rfl rfl rfl (by decide +kernel) ⟨Nat.le_of_ble_eq_true rfl, Nat.le_of_ble_eq_true rfl⟩) (h_preV hGr hr hS ec7 (by decide) (q := (RX3, TX3, 2)) rfl _) rfl rfl hl.1 rfl (lv_room (Nat.le_of_ble_eq_true rfl)) dX10_takes_30 ⟨(bud hc mm7 hmc hms).1, (bud hc mm7 hmc hms).2⟩) hS (fun rr uu H locs hw hr hS => ?_)
          obtain rfl : u7 = uu := (congrArg Prod.snd hw).symm
          obtain rfl : r7 = rr := (congrArg Prod.fst hw).symm
          obtain ⟨n8, f8, e8, lo8, g8, hF⟩ := sI_s hF
          obtain ⟨h8, eh8⟩ : ∃ z, z = hPut u7 b1 (.inl (0, n8, .inl (upd f8 (x4).toNatClampNeg r7))) := ⟨_, rfl⟩
          rw [← eh8] at hF
          refine h_iast hx hb hGr hr hS 0 rfl e8 (x := r7) g8 lo8 dX10_takes_33 (fun H locs hr hS => ?_)
          rw [← eh8] at hr
          replace hc := cst_put hc eh8
          refine lv_iinc (v := (x4 + 1)) (lv' := [(4, .int (x4 + 1)), (0, .ref b0), (1, .ref b1), (2, .int x2), (3, .ref b3)]) hx hb dX10_takes_34 hl (k := 4) rfl rfl (by decide) rfl (fun ls hl => ?_)
          refine lv_goto (tgt := 3) hx hb dX10_takes_37 (by decide) ?_
          exact lp1 h8 b0 b1 x2 b3 (x4 + 1) hF _ _ _ _ hc hr hS ls (lv_sub hl [1, 2, 3, 4, 0] rfl)
  have lp1 := loop n
  have ml1 := moX10_takes_r n
  have hc : cst h0 0 0 h := by rw [eh0]; exact cst_0
  unfold GX10_takes GX10_takes_0 at hF
  refine lv_iconst (v := 0) hx hb dX10_takes_0 (by decide) ?_
  refine lv_istore (lv' := [(4, .int 0), (0, .ref a0), (1, .ref a1), (2, .int p2), (3, .ref a3)]) hx hb dX10_takes_1 hl (by decide) rfl (fun ls hl => ?_)
  exact lp1 h a0 a1 p2 a3 (0 : Int32) hF _ _ _ _ hc hr hS ls (lv_sub hl [1, 2, 3, 4, 0] rfl)

def GX10_clears_1 (R : Nat → Hp → Nat → Int32 → Int32 → Nat → Int32 → Int32 → Option (Int32 × Hp)) (n : Nat) (h : Hp) (b0 : Nat) (x1 : Int32) (x2 : Int32) (b3 : Nat) (x4 : Int32) (x5 : Int32) : Option (Int32 × Hp) := aL h b3 (fun x38_ => if x38_ ≤ x5 then R 2 h b0 x1 x2 b3 x4 (0 : Int32) else aI h b3 0 x5 (fun x40_ => gQ h b0 9 0 (fun x41_ => gI h x41_ 3 0 (fun x42_ => gd (nzB x42_) (sI h b3 0 x5 ((x40_ * x4) - (x40_ * x4) / x42_ * x42_) (fun h44 => R 1 h44 b0 x1 x2 b3 x4 (x5 + 1)))))))
def GX10_clears_2 (R : Nat → Hp → Nat → Int32 → Int32 → Nat → Int32 → Int32 → Option (Int32 × Hp)) (n : Nat) (h : Hp) (b0 : Nat) (x1 : Int32) (x2 : Int32) (b3 : Nat) (x4 : Int32) (x5 : Int32) : Option (Int32 × Hp) := gQ h b0 9 1 (fun x45_ => aL h x45_ (fun x46_ => if x46_ ≤ x5 then gI h b0 9 2 (fun x48_ => pV h b0 9 2 (.int (x48_ + 1)) (fun h49 => some (0, h49))) else gI h b0 9 2 (fun x50_ => if x5 = x50_ then R 2 h b0 x1 x2 b3 x4 (x5 + 1) else gQ h b0 9 1 (fun x52_ => aQ h x52_ 4 x5 (fun x53_ => gQ h b0 9 1 (fun x54_ => aQ h x54_ 4 x5 (fun x55_ => aI h x55_ 0 x1 (fun x56_ => gC h b0 9 (bnd (GX10_takes n h b0 x53_ x56_ b3) (fun r57 u57 => R 2 u57 b0 x1 x2 b3 x4 (x5 + 1)))))))))))
def GX10_clears_r : Nat → Nat → Hp → Nat → Int32 → Int32 → Nat → Int32 → Int32 → Option (Int32 × Hp)
  | 0 => fun _ _ _ _ _ _ _ _ => none
  | n + 1 => fun k => match k with | 1 => GX10_clears_1 (GX10_clears_r n) n | _ => GX10_clears_2 (GX10_clears_r n) n
def GX10_clears_0 (R : Nat → Hp → Nat → Int32 → Int32 → Nat → Int32 → Int32 → Option (Int32 × Hp)) (n : Nat) (h : Hp) (a0 : Nat) (p1 : Int32) : Option (Int32 × Hp) := gC h a0 9 (bnd (GX10_pivot n h a0 p1) (fun r1 u1 => if r1 = (-1) then pV u1 a0 9 3 (.int 0) (fun h37 => some (0, h37)) else gQ u1 a0 9 1 (fun x3_ => aQ u1 x3_ 4 r1 (fun x4_ => gQ u1 a0 9 1 (fun x5_ => gQ u1 a0 9 1 (fun x6_ => gI u1 a0 9 2 (fun x7_ => aQ u1 x6_ 4 x7_ (fun x8_ => sR u1 x5_ r1 x8_ (fun h9 => gQ h9 a0 9 1 (fun x10_ => gI h9 a0 9 2 (fun x11_ => sR h9 x10_ x11_ x4_ (fun h12 => gI h12 a0 9 2 (fun x13_ => if r1 = x13_ then gI h12 a0 9 3 (fun x27_ => aI h12 x4_ 0 p1 (fun x28_ => gQ h12 a0 9 0 (fun x29_ => gI h12 x29_ 3 0 (fun x30_ => gd (nzB x30_) (pV h12 a0 9 3 (.int ((x27_ * x28_) - (x27_ * x28_) / x30_ * x30_)) (fun h32 => gQ h32 a0 9 0 (fun x33_ => gQ h32 x33_ 3 1 (fun x34_ => aI h32 x4_ 0 p1 (fun x35_ => aI h32 x34_ 0 x35_ (fun x36_ => R 1 h32 a0 p1 r1 x4_ x36_ p1)))))))))) else gQ h12 a0 9 0 (fun x15_ => gI h12 x15_ 3 0 (fun x16_ => gI h12 a0 9 3 (fun x17_ => aI h12 x4_ 0 p1 (fun x18_ => gQ h12 a0 9 0 (fun x19_ => gI h12 x19_ 3 0 (fun x20_ => gd (nzB x20_) (pV h12 a0 9 3 (.int (((x16_ - x17_) * x18_) - ((x16_ - x17_) * x18_) / x20_ * x20_)) (fun h22 => gQ h22 a0 9 0 (fun x23_ => gQ h22 x23_ 3 1 (fun x24_ => aI h22 x4_ 0 p1 (fun x25_ => aI h22 x24_ 0 x25_ (fun x26_ => R 1 h22 a0 p1 r1 x4_ x26_ p1)))))))))))))))))))))))))
def GX10_clears (n : Nat) (h : Hp) (a0 : Nat) (p1 : Int32) : Option (Int32 × Hp) := GX10_clears_0 (GX10_clears_r n) n h a0 p1
theorem moX10_clears_r (n : Nat) : (∀ (h : Hp) (b0 : Nat) (x1 : Int32) (x2 : Int32) (b3 : Nat) (x4 : Int32) (x5 : Int32), Mo h (GX10_clears_r n 1 h b0 x1 x2 b3 x4 x5)) ∧ (∀ (h : Hp) (b0 : Nat) (x1 : Int32) (x2 : Int32) (b3 : Nat) (x4 : Int32) (x5 : Int32), Mo h (GX10_clears_r n 2 h b0 x1 x2 b3 x4 x5)) := by
  induction n with
  | zero => exact ⟨(fun _ _ _ _ _ _ _ => mo_no), (fun _ _ _ _ _ _ _ => mo_no)⟩
  | succ n ih =>
    obtain ⟨ml1, ml2⟩ := ih
    exact ⟨(fun h b0 x1 x2 b3 x4 x5 => show Mo h (GX10_clears_1 (GX10_clears_r n) n h b0 x1 x2 b3 x4 x5) from by unfold GX10_clears_1; exact mo_aL (fun x38_ => mo_ite (mo_tr hle_rf (ml2 h b0 x1 x2 b3 x4 (0 : Int32))) (mo_aI (fun x40_ => mo_gQ (fun x41_ => mo_gI (fun x42_ => mo_gd (mo_sI hle_rf (fun h44 m44 => mo_tr m44 (ml1 h44 b0 x1 x2 b3 x4 (x5 + 1)))))))))),
      (fun h b0 x1 x2 b3 x4 x5 => show Mo h (GX10_clears_2 (GX10_clears_r n) n h b0 x1 x2 b3 x4 x5) from by unfold GX10_clears_2; exact mo_gQ (fun x45_ => mo_aL (fun x46_ => mo_ite (mo_gI (fun x48_ => mo_pV hle_rf (fun h49 m49 => mo_ret m49))) (mo_gI (fun x50_ => mo_ite (mo_tr hle_rf (ml2 h b0 x1 x2 b3 x4 (x5 + 1))) (mo_gQ (fun x52_ => mo_aQ (fun x53_ => mo_gQ (fun x54_ => mo_aQ (fun x55_ => mo_aI (fun x56_ => mo_gC (mo_bnd (moX10_takes n h b0 x53_ x56_ b3) hle_rf (fun r57 u57 m57 => mo_tr m57 (ml2 u57 b0 x1 x2 b3 x4 (x5 + 1)))))))))))))))⟩
theorem moX10_clears (n : Nat) (h : Hp) (a0 : Nat) (p1 : Int32) : Mo h (GX10_clears n h a0 p1) := by
  obtain ⟨ml1, ml2⟩ := moX10_clears_r n
  unfold GX10_clears GX10_clears_0
  exact mo_gC (mo_bnd (moX10_pivot n h a0 p1) hle_rf (fun r1 u1 m1 => mo_ite (mo_pV m1 (fun h37 m37 => mo_ret m37)) (mo_gQ (fun x3_ => mo_aQ (fun x4_ => mo_gQ (fun x5_ => mo_gQ (fun x6_ => mo_gI (fun x7_ => mo_aQ (fun x8_ => mo_sR m1 (fun h9 m9 => mo_gQ (fun x10_ => mo_gI (fun x11_ => mo_sR m9 (fun h12 m12 => mo_gI (fun x13_ => mo_ite (mo_gI (fun x27_ => mo_aI (fun x28_ => mo_gQ (fun x29_ => mo_gI (fun x30_ => mo_gd (mo_pV m12 (fun h32 m32 => mo_gQ (fun x33_ => mo_gQ (fun x34_ => mo_aI (fun x35_ => mo_aI (fun x36_ => mo_tr m32 (ml1 h32 a0 p1 r1 x4_ x36_ p1)))))))))))) (mo_gQ (fun x15_ => mo_gI (fun x16_ => mo_gI (fun x17_ => mo_aI (fun x18_ => mo_gQ (fun x19_ => mo_gI (fun x20_ => mo_gd (mo_pV m12 (fun h22 m22 => mo_gQ (fun x23_ => mo_gQ (fun x24_ => mo_aI (fun x25_ => mo_aI (fun x26_ => mo_tr m22 (ml1 h22 a0 p1 r1 x4_ x26_ p1))))))))))))))))))))))))))))
set_option maxHeartbeats 4000000 in
set_option maxRecDepth 100000 in
theorem mgX10_clears (l : Launch) (D : HD) (A : Nat → Prop) (h : Hp) (n : Nat) (a0 : Nat) (p1 : Int32) (out : Int32 × Hp) (hF : GX10_clears n h a0 p1 = some out) (mc ms : Nat) (hmc : hCc out.2 = hCc h + mc) (hms : hSl out.2 = hSl h + ms) : Met l yX10_clears (ws_ yX10_clears cX10_clears 6 none) ({ frames := 2, cells := mc, slots := ms, locals := 47 }) (va_Pc [.ref a0, .int p1] (hW D A h)) (va_Qv (fun u => (0, u) = out) (hW D A) A) mc ms A := by
  refine Met.ofW (cc := cX10_clears) (maxL := 6) (ret := none) (by decide +kernel) rfl ?_
  intro p e s m args below meth c s₁ B hml hv
  obtain ⟨rfl, hr, hGr⟩ := hv
  have hx := B.exec
  have hb := B.bytes
  have hret := B.returns
  have hts := atoms_spec (ws := (ws_ yX10_clears cX10_clears 6 none)) B.pre
  have hts : ∀ w ∈ lw_all, w.before _ s = true := fun w h => hts w (List.mem_cons_of_mem _ h)
  have hown : s.vm.findClass RX10 = some m.cls := findClass_of_methodNamed B.named
  have hlocks := B.notSynchronized
  have hS : va_S A s.heap s.heap [] := va_S.rf
  have hc : cst h 0 0 h := cst_0
  have hl := lv_entry ([.ref a0, .int p1]) (n := 6) (Nat.le_of_ble_eq_true rfl)
  rw [lg_entry_eq]
  generalize (lg_sl ([.ref a0, .int p1]) ++ List.replicate (6 - (lg_sl ([.ref a0, .int p1])).length) Slot.unset).toArray = ls at hl ⊢
  have hl : lv_has ls 6 [(0, .ref a0), (1, .int p1)] := hl
  obtain ⟨h0, eh0⟩ : ∃ z, z = h := ⟨_, rfl⟩
  rw [← eh0] at hmc hms
  have loop : ∀ n : Nat, (∀ (h : Hp) (b0 : Nat) (x1 : Int32) (x2 : Int32) (b3 : Nat) (x4 : Int32) (x5 : Int32), GX10_clears_r n 1 h b0 x1 x2 b3 x4 x5 = some out → ∀ (H : Heap) (locs : List Loc) (cells slots : Nat), cst h0 cells slots h → hR D A h H → va_S A s.heap H locs → ∀ ls : Array Slot, lv_has ls 6 [(0, .ref b0), (1, .int x1), (2, .int x2), (3, .ref b3), (4, .int x4), (5, .int x5)] → W p l e (headSpec (ws_ yX10_clears cX10_clears 6 none) ({ frames := 2, cells := mc, slots := ms, locals := 47 })).room s m ([.ref a0, .int p1] : List Value).toArray below meth c H locs cells slots (MQ below (va_Qv (fun u => (0, u) = out) (hW D A) A) ([.ref a0, .int p1] : List Value).toArray s mc ms A) (F0 m 108 ls [])) ∧ (∀ (h : Hp) (b0 : Nat) (x1 : Int32) (x2 : Int32) (b3 : Nat) (x4 : Int32) (x5 : Int32), GX10_clears_r n 2 h b0 x1 x2 b3 x4 x5 = some out → ∀ (H : Heap) (locs : List Loc) (cells slots : Nat), cst h0 cells slots h → hR D A h H → va_S A s.heap H locs → ∀ ls : Array Slot, lv_has ls 6 [(0, .ref b0), (1, .int x1), (2, .int x2), (3, .ref b3), (4, .int x4), (5, .int x5)] → W p l e (headSpec (ws_ yX10_clears cX10_clears 6 none) ({ frames := 2, cells := mc, slots := ms, locals := 47 })).room s m ([.ref a0, .int p1] : List Value).toArray below meth c H locs cells slots (MQ below (va_Qv (fun u => (0, u) = out) (hW D A) A) ([.ref a0, .int p1] : List Value).toArray s mc ms A) (F0 m 143 ls [])) := by
    intro n
    induction n with
    | zero => exact ⟨(fun _ _ _ _ _ _ _ h => nomatch h), (fun _ _ _ _ _ _ _ h => nomatch h)⟩
    | succ n ih =>
      obtain ⟨lp1, lp2⟩ := ih
      obtain ⟨ml1, ml2⟩ := moX10_clears_r n
      refine ⟨?_, ?_⟩
      · intro h b0 x1 x2 b3 x4 x5 hF H locs cells slots hc hr hS ls hl
        replace hF : GX10_clears_1 (GX10_clears_r n) n h b0 x1 x2 b3 x4 x5 = some out := hF
        unfold GX10_clears_1 at hF
        refine lv_iload hx hb dX10_clears_108 (lv_at hl 5 rfl) ?_
        refine lv_aload_n hx hb dX10_clears_110 rfl (lv_at hl 3 rfl) ?_
        obtain ⟨k38, y38, e38, g38, hF⟩ := aL_s hF
        obtain ⟨x38_, ex38⟩ : ∃ z, z = Int32.ofNat y38.1 := ⟨_, rfl⟩
        rw [← ex38] at hF
        refine h_alen hx hb hGr hr e38 g38 dX10_clears_111 ?_
        rw [← ex38]
        refine lv_icmp_ge (tgt := 140) hx hb dX10_clears_112 (by decide) (fun c39 => ?_) (fun c39 => ?_)
        · replace hF := it_t c39 hF
          refine lv_iconst (v := 0) hx hb dX10_clears_140 (by decide) ?_
          refine lv_istore (lv' := [(5, .int 0), (0, .ref b0), (1, .int x1), (2, .int x2), (3, .ref b3), (4, .int x4)]) hx hb dX10_clears_141 hl (by decide) rfl (fun ls hl => ?_)
          exact lp2 h b0 x1 x2 b3 x4 (0 : Int32) hF _ _ _ _ hc hr hS ls (lv_sub hl [1, 2, 3, 4, 5, 0] rfl)
        · replace hF := it_f c39 hF
          refine lv_aload_n hx hb dX10_clears_115 rfl (lv_at hl 3 rfl) ?_
          refine lv_iload hx hb dX10_clears_116 (lv_at hl 5 rfl) ?_
          refine lv_aload_n hx hb dX10_clears_118 rfl (lv_at hl 3 rfl) ?_
          refine lv_iload hx hb dX10_clears_119 (lv_at hl 5 rfl) ?_
          obtain ⟨n40, f40, e40, g40, hF⟩ := aI_s hF
          obtain ⟨x40_, ex40⟩ : ∃ z, z = f40 (x5).toNatClampNeg := ⟨_, rfl⟩
          rw [← ex40] at hF
          refine h_iald hx hb hGr hr 0 rfl e40 g40 dX10_clears_121 ?_
          rw [← ex40]
          refine lv_iload hx hb dX10_clears_122 (lv_at hl 4 rfl) ?_
          refine lv_imul hx hb dX10_clears_124 ?_
          refine lv_aload_n hx hb dX10_clears_125 rfl (lv_at hl 0 rfl) ?_
          obtain ⟨fs41, x41_, e41, f41, hF⟩ := gQ_s hF
          refine h_get (C := RX10) (T := TX10) (N := 4) hx hb hts in_X10 hown hGr hr e41 (by decide) rfl 0 (by decide) (hts _ q1110) (fun _ h9 => h9) f41 dX10_clears_126 ?_
          obtain ⟨fs42, x42_, e42, f42, hF⟩ := gI_s hF
          refine h_getN (C := RX3) (T := TX3) (N := 2) hx hb hts in_X3 hown hGr hr e42 (by decide) rfl 0 (by decide) (va_Nw.use rfl (hGr.nw q166 rfl)) (fun _ h9 => h9) f42 dX10_clears_129 ?_
          obtain ⟨g43, hF⟩ := gd_s hF
          refine lv_irem hx hb dX10_clears_132 (nz_of g43) ?_
          obtain ⟨n44, f44, e44, lo44, g44, hF⟩ := sI_s hF
          obtain ⟨h44, eh44⟩ : ∃ z, z = hPut h b3 (.inl (0, n44, .inl (upd f44 (x5).toNatClampNeg ((x40_ * x4) - (x40_ * x4) / x42_ * x42_)))) := ⟨_, rfl⟩
          rw [← eh44] at hF
          refine h_iast hx hb hGr hr hS 0 rfl e44 (x := ((x40_ * x4) - (x40_ * x4) / x42_ * x42_)) g44 lo44 dX10_clears_133 (fun H locs hr hS => ?_)
          rw [← eh44] at hr
          replace hc := cst_put hc eh44
          refine lv_iinc (v := (x5 + 1)) (lv' := [(5, .int (x5 + 1)), (0, .ref b0), (1, .int x1), (2, .int x2), (3, .ref b3), (4, .int x4)]) hx hb dX10_clears_134 hl (k := 5) rfl rfl (by decide) rfl (fun ls hl => ?_)
          refine lv_goto (tgt := 108) hx hb dX10_clears_137 (by decide) ?_
          exact lp1 h44 b0 x1 x2 b3 x4 (x5 + 1) hF _ _ _ _ hc hr hS ls (lv_sub hl [1, 2, 3, 4, 5, 0] rfl)
      · intro h b0 x1 x2 b3 x4 x5 hF H locs cells slots hc hr hS ls hl
        replace hF : GX10_clears_2 (GX10_clears_r n) n h b0 x1 x2 b3 x4 x5 = some out := hF
        unfold GX10_clears_2 at hF
        refine lv_iload hx hb dX10_clears_143 (lv_at hl 5 rfl) ?_
        refine lv_aload_n hx hb dX10_clears_145 rfl (lv_at hl 0 rfl) ?_
        obtain ⟨fs45, x45_, e45, f45, hF⟩ := gQ_s hF
        refine h_get (C := RX10) (T := TX10) (N := 4) hx hb hts in_X10 hown hGr hr e45 (by decide) rfl 1 (by decide) (hts _ q1111) (fun _ h9 => h9) f45 dX10_clears_146 ?_
        obtain ⟨k46, y46, e46, g46, hF⟩ := aL_s hF
        obtain ⟨x46_, ex46⟩ : ∃ z, z = Int32.ofNat y46.1 := ⟨_, rfl⟩
        rw [← ex46] at hF
        refine h_alen hx hb hGr hr e46 g46 dX10_clears_149 ?_
        rw [← ex46]
        refine lv_icmp_ge (tgt := 189) hx hb dX10_clears_150 (by decide) (fun c47 => ?_) (fun c47 => ?_)
        · replace hF := it_t c47 hF
          refine lv_aload_n hx hb dX10_clears_189 rfl (lv_at hl 0 rfl) ?_
          refine lv_dup hx hb dX10_clears_190 rfl ?_
          obtain ⟨fs48, x48_, e48, f48, hF⟩ := gI_s hF
          refine h_get (C := RX10) (T := TX10) (N := 4) hx hb hts in_X10 hown hGr hr e48 (by decide) rfl 2 (by decide) (hts _ q1112) (fun _ h9 => h9) f48 dX10_clears_191 ?_
          refine lv_iconst (v := 1) hx hb dX10_clears_194 (by decide) ?_
          refine lv_iadd hx hb dX10_clears_195 ?_
          obtain ⟨fs49, e49, k49, lo49, hF⟩ := pV_s hF
          obtain ⟨h49, eh49⟩ : ∃ z, z = hPut h b0 (.inr (9, fs49.set 2 (.int (x48_ + 1)))) := ⟨_, rfl⟩
          rw [← eh49] at hF
          refine h_put (C := RX10) (T := TX10) (N := 4) hx hb hts in_X10 tyX10 tyX10_ok nmX10 hown hGr hr hS e49 (by decide) rfl 2 (by decide) (hts _ q1112) (fun _ h9 => h9) rfl (tyX10_ok 2 (by decide)) rfl rfl k49 lo49 dX10_clears_196 (fun H locs hr hS => ?_)
          rw [← eh49] at hr
          replace hc := cst_put hc eh49
          have bz := bud_r hc hF hmc hms
          refine W.widen (k := mc) (n := ms) bz.1 bz.2 ?_
          exact W.vret hx hb hret (fun t ht hWm => ⟨⟨h49, rfl, Option.some.inj hF, h_end hGr hr hS ht hWm⟩, hS.F ht⟩) hS.2.2 dX10_clears_199
        · replace hF := it_f c47 hF
          refine lv_iload hx hb dX10_clears_153 (lv_at hl 5 rfl) ?_
          refine lv_aload_n hx hb dX10_clears_155 rfl (lv_at hl 0 rfl) ?_
          obtain ⟨fs50, x50_, e50, f50, hF⟩ := gI_s hF
          refine h_get (C := RX10) (T := TX10) (N := 4) hx hb hts in_X10 hown hGr hr e50 (by decide) rfl 2 (by decide) (hts _ q1112) (fun _ h9 => h9) f50 dX10_clears_156 ?_
          refine lv_icmp_eq (tgt := 183) hx hb dX10_clears_159 (by decide) (fun c51 => ?_) (fun c51 => ?_)
          · replace hF := it_t c51 hF
            refine lv_iinc (v := (x5 + 1)) (lv' := [(5, .int (x5 + 1)), (0, .ref b0), (1, .int x1), (2, .int x2), (3, .ref b3), (4, .int x4)]) hx hb dX10_clears_183 hl (k := 5) rfl rfl (by decide) rfl (fun ls hl => ?_)
            refine lv_goto (tgt := 143) hx hb dX10_clears_186 (by decide) ?_
            exact lp2 h b0 x1 x2 b3 x4 (x5 + 1) hF _ _ _ _ hc hr hS ls (lv_sub hl [1, 2, 3, 4, 5, 0] rfl)
          · replace hF := it_f c51 hF
            refine lv_aload_n hx hb dX10_clears_162 rfl (lv_at hl 0 rfl) ?_
            refine lv_aload_n hx hb dX10_clears_163 rfl (lv_at hl 0 rfl) ?_
            obtain ⟨fs52, x52_, e52, f52, hF⟩ := gQ_s hF
            refine h_get (C := RX10) (T := TX10) (N := 4) hx hb hts in_X10 hown hGr hr e52 (by decide) rfl 1 (by decide) (hts _ q1111) (fun _ h9 => h9) f52 dX10_clears_164 ?_
            refine lv_iload hx hb dX10_clears_167 (lv_at hl 5 rfl) ?_
            obtain ⟨n53, f53, x53_, e53, g53, ex53, hF⟩ := aQ_s hF
            refine h_aald hx hb hGr hr (by decide) e53 g53 dX10_clears_169 (v := .ref x53_) (by rw [ex53]; rfl) ?_
            refine lv_aload_n hx hb dX10_clears_170 rfl (lv_at hl 0 rfl) ?_
            obtain ⟨fs54, x54_, e54, f54, hF⟩ := gQ_s hF
            refine h_get (C := RX10) (T := TX10) (N := 4) hx hb hts in_X10 hown hGr hr e54 (by decide) rfl 1 (by decide) (hts _ q1111) (fun _ h9 => h9) f54 dX10_clears_171 ?_
            refine lv_iload hx hb dX10_clears_174 (lv_at hl 5 rfl) ?_
            obtain ⟨n55, f55, x55_, e55, g55, ex55, hF⟩ := aQ_s hF
            refine h_aald hx hb hGr hr (by decide) e55 g55 dX10_clears_176 (v := .ref x55_) (by rw [ex55]; rfl) ?_
            refine lv_iload_n hx hb dX10_clears_177 rfl (lv_at hl 1 rfl) ?_
            obtain ⟨n56, f56, e56, g56, hF⟩ := aI_s hF
            obtain ⟨x56_, ex56⟩ : ∃ z, z = f56 (x1).toNatClampNeg := ⟨_, rfl⟩
            rw [← ex56] at hF
            refine h_iald hx hb hGr hr 0 rfl e56 g56 dX10_clears_178 ?_
            rw [← ex56]
            refine lv_aload_n hx hb dX10_clears_179 rfl (lv_at hl 3 rfl) ?_
            obtain ⟨fc57, ec57, hF⟩ := gC_s hF
            obtain ⟨r57, u57, e57, hF⟩ := bnd_s hF
            have mm57 : hle u57 out.2 := (show Mo u57 _ from mo_tr hle_rf (ml2 u57 b0 x1 x2 b3 x4 (x5 + 1))) _ hF
            obtain ⟨mc57, ms57, hmc57, hms57⟩ := up_of (moX10_takes n h b0 x53_ x56_ b3 _ e57)
            replace hc := cst_call hc hmc57 hms57
            refine h_callv (va_runV (As := [.ref x53_, .int x56_, .ref b3]) (rest := []) ⟨hx, hb, hml, hown, hts⟩ (mgX10_takes l D A h n b0 x53_ x56_ b3 _ e57 mc57 ms57 hmc57 hms57) (cwV 3 hts (lw_V q1105 q1107 qs21 q141 q1108) rfl rfl rfl (by decide +kernel) ⟨Nat.le_of_ble_eq_true rfl, Nat.le_of_ble_eq_true rfl⟩) (h_preV hGr hr hS ec57 (by decide) (q := (RX10, TX10, 4)) rfl _) rfl rfl hl.1 rfl (lv_room (Nat.le_of_ble_eq_true rfl)) dX10_clears_180 ⟨(bud hc mm57 hmc hms).1, (bud hc mm57 hmc hms).2⟩) hS (fun uu H locs hw hr hS => ?_)
            obtain rfl : u57 = uu := (congrArg Prod.snd hw).symm
            refine lv_iinc (v := (x5 + 1)) (lv' := [(5, .int (x5 + 1)), (0, .ref b0), (1, .int x1), (2, .int x2), (3, .ref b3), (4, .int x4)]) hx hb dX10_clears_183 hl (k := 5) rfl rfl (by decide) rfl (fun ls hl => ?_)
            refine lv_goto (tgt := 143) hx hb dX10_clears_186 (by decide) ?_
            exact lp2 u57 b0 x1 x2 b3 x4 (x5 + 1) hF _ _ _ _ hc hr hS ls (lv_sub hl [1, 2, 3, 4, 5, 0] rfl)
  obtain ⟨lp1, lp2⟩ := loop n
  obtain ⟨ml1, ml2⟩ := moX10_clears_r n
  have hc : cst h0 0 0 h := by rw [eh0]; exact cst_0
  unfold GX10_clears GX10_clears_0 at hF
  refine lv_aload_n hx hb dX10_clears_0 rfl (lv_at hl 0 rfl) ?_
  refine lv_iload_n hx hb dX10_clears_1 rfl (lv_at hl 1 rfl) ?_
  obtain ⟨fc1, ec1, hF⟩ := gC_s hF
  obtain ⟨r1, u1, e1, hF⟩ := bnd_s hF
  have mm1 : hle u1 out.2 := (show Mo u1 _ from mo_ite (mo_pV hle_rf (fun h37 m37 => mo_ret m37)) (mo_gQ (fun x3_ => mo_aQ (fun x4_ => mo_gQ (fun x5_ => mo_gQ (fun x6_ => mo_gI (fun x7_ => mo_aQ (fun x8_ => mo_sR hle_rf (fun h9 m9 => mo_gQ (fun x10_ => mo_gI (fun x11_ => mo_sR m9 (fun h12 m12 => mo_gI (fun x13_ => mo_ite (mo_gI (fun x27_ => mo_aI (fun x28_ => mo_gQ (fun x29_ => mo_gI (fun x30_ => mo_gd (mo_pV m12 (fun h32 m32 => mo_gQ (fun x33_ => mo_gQ (fun x34_ => mo_aI (fun x35_ => mo_aI (fun x36_ => mo_tr m32 (ml1 h32 a0 p1 r1 x4_ x36_ p1)))))))))))) (mo_gQ (fun x15_ => mo_gI (fun x16_ => mo_gI (fun x17_ => mo_aI (fun x18_ => mo_gQ (fun x19_ => mo_gI (fun x20_ => mo_gd (mo_pV m12 (fun h22 m22 => mo_gQ (fun x23_ => mo_gQ (fun x24_ => mo_aI (fun x25_ => mo_aI (fun x26_ => mo_tr m22 (ml1 h22 a0 p1 r1 x4_ x26_ p1))))))))))))))))))))))))))) _ hF
  obtain ⟨mc1, ms1, hmc1, hms1⟩ := up_of (moX10_pivot n h a0 p1 _ e1)
  replace hc := cst_call hc hmc1 hms1
  refine h_calli (va_runV (As := [.int p1]) (rest := []) ⟨hx, hb, hml, hown, hts⟩ (mgX10_pivot l D A h n a0 p1 _ e1 mc1 ms1 hmc1 hms1) (cwV 1 hts (lw_V q1101 q1103 qs20 q141 q1104) rfl rfl rfl (by decide +kernel) ⟨Nat.le_of_ble_eq_true rfl, Nat.le_of_ble_eq_true rfl⟩) (h_preV hGr hr hS ec1 (by decide) (q := (RX10, TX10, 4)) rfl _) rfl rfl hl.1 rfl (lv_room (Nat.le_of_ble_eq_true rfl)) dX10_clears_2 ⟨(bud hc mm1 hmc hms).1, (bud hc mm1 hmc hms).2⟩) hS (fun rr uu H locs hw hr hS => ?_)
  obtain rfl : u1 = uu := (congrArg Prod.snd hw).symm
  obtain rfl : r1 = rr := (congrArg Prod.fst hw).symm
  refine lv_istore_n (lv' := [(2, .int r1), (0, .ref a0), (1, .int p1)]) hx hb dX10_clears_5 rfl hl (by decide) rfl (fun ls hl => ?_)
  refine lv_iload_n hx hb dX10_clears_6 rfl (lv_at hl 0 rfl) ?_
  refine lv_iconst (v := (-1)) hx hb dX10_clears_7 (by decide) ?_
  refine lv_icmp_ne (tgt := 17) hx hb dX10_clears_8 (by decide) (fun c2 => ?_) (fun c2 => ?_)
  · replace hF := it_f c2 hF
    refine lv_aload_n hx hb dX10_clears_17 rfl (lv_at hl 1 rfl) ?_
    obtain ⟨fs3, x3_, e3, f3, hF⟩ := gQ_s hF
    refine h_get (C := RX10) (T := TX10) (N := 4) hx hb hts in_X10 hown hGr hr e3 (by decide) rfl 1 (by decide) (hts _ q1111) (fun _ h9 => h9) f3 dX10_clears_18 ?_
    refine lv_iload_n hx hb dX10_clears_21 rfl (lv_at hl 0 rfl) ?_
    obtain ⟨n4, f4, x4_, e4, g4, ex4, hF⟩ := aQ_s hF
    refine h_aald hx hb hGr hr (by decide) e4 g4 dX10_clears_22 (v := .ref x4_) (by rw [ex4]; rfl) ?_
    refine lv_astore_n (lv' := [(3, .ref x4_), (2, .int r1), (0, .ref a0), (1, .int p1)]) hx hb dX10_clears_23 rfl hl (by decide) rfl (fun ls hl => ?_)
    refine lv_aload_n hx hb dX10_clears_24 rfl (lv_at hl 2 rfl) ?_
    obtain ⟨fs5, x5_, e5, f5, hF⟩ := gQ_s hF
    refine h_get (C := RX10) (T := TX10) (N := 4) hx hb hts in_X10 hown hGr hr e5 (by decide) rfl 1 (by decide) (hts _ q1111) (fun _ h9 => h9) f5 dX10_clears_25 ?_
    refine lv_iload_n hx hb dX10_clears_28 rfl (lv_at hl 1 rfl) ?_
    refine lv_aload_n hx hb dX10_clears_29 rfl (lv_at hl 2 rfl) ?_
    obtain ⟨fs6, x6_, e6, f6, hF⟩ := gQ_s hF
    refine h_get (C := RX10) (T := TX10) (N := 4) hx hb hts in_X10 hown hGr hr e6 (by decide) rfl 1 (by decide) (hts _ q1111) (fun _ h9 => h9) f6 dX10_clears_30 ?_
    refine lv_aload_n hx hb dX10_clears_33 rfl (lv_at hl 2 rfl) ?_
    obtain ⟨fs7, x7_, e7, f7, hF⟩ := gI_s hF
    refine h_get (C := RX10) (T := TX10) (N := 4) hx hb hts in_X10 hown hGr hr e7 (by decide) rfl 2 (by decide) (hts _ q1112) (fun _ h9 => h9) f7 dX10_clears_34 ?_
    obtain ⟨n8, f8, x8_, e8, g8, ex8, hF⟩ := aQ_s hF
    refine h_aald hx hb hGr hr (by decide) e8 g8 dX10_clears_37 (v := .ref x8_) (by rw [ex8]; rfl) ?_
    obtain ⟨n9, f9, nv9, fv9, e9, ev9, lo9, g9, hF⟩ := sR_s hF
    obtain ⟨h9, eh9⟩ : ∃ z, z = hPut u1 x5_ (.inl (4, n9, .inr (.inr (.inr (.inr (va_up f9 (r1).toNatClampNeg (some x8_))))))) := ⟨_, rfl⟩
    rw [← eh9] at hF
    refine h_aastR hx hb hGr hr hS e9 ev9 g9 lo9 dX10_clears_38 (fun H locs hr hS => ?_)
    rw [← eh9] at hr
    replace hc := cst_put hc eh9
    refine lv_aload_n hx hb dX10_clears_39 rfl (lv_at hl 2 rfl) ?_
    obtain ⟨fs10, x10_, e10, f10, hF⟩ := gQ_s hF
    refine h_get (C := RX10) (T := TX10) (N := 4) hx hb hts in_X10 hown hGr hr e10 (by decide) rfl 1 (by decide) (hts _ q1111) (fun _ h9 => h9) f10 dX10_clears_40 ?_
    refine lv_aload_n hx hb dX10_clears_43 rfl (lv_at hl 2 rfl) ?_
    obtain ⟨fs11, x11_, e11, f11, hF⟩ := gI_s hF
    refine h_get (C := RX10) (T := TX10) (N := 4) hx hb hts in_X10 hown hGr hr e11 (by decide) rfl 2 (by decide) (hts _ q1112) (fun _ h9 => h9) f11 dX10_clears_44 ?_
    refine lv_aload_n hx hb dX10_clears_47 rfl (lv_at hl 0 rfl) ?_
    obtain ⟨n12, f12, nv12, fv12, e12, ev12, lo12, g12, hF⟩ := sR_s hF
    obtain ⟨h12, eh12⟩ : ∃ z, z = hPut h9 x10_ (.inl (4, n12, .inr (.inr (.inr (.inr (va_up f12 (x11_).toNatClampNeg (some x4_))))))) := ⟨_, rfl⟩
    rw [← eh12] at hF
    refine h_aastR hx hb hGr hr hS e12 ev12 g12 lo12 dX10_clears_48 (fun H locs hr hS => ?_)
    rw [← eh12] at hr
    replace hc := cst_put hc eh12
    refine lv_aload_n hx hb dX10_clears_49 rfl (lv_at hl 2 rfl) ?_
    refine lv_iload_n hx hb dX10_clears_50 rfl (lv_at hl 1 rfl) ?_
    refine lv_aload_n hx hb dX10_clears_51 rfl (lv_at hl 2 rfl) ?_
    obtain ⟨fs13, x13_, e13, f13, hF⟩ := gI_s hF
    refine h_get (C := RX10) (T := TX10) (N := 4) hx hb hts in_X10 hown hGr hr e13 (by decide) rfl 2 (by decide) (hts _ q1112) (fun _ h9 => h9) f13 dX10_clears_52 ?_
    refine lv_icmp_ne (tgt := 65) hx hb dX10_clears_55 (by decide) (fun c14 => ?_) (fun c14 => ?_)
    · replace hF := it_f c14 hF
      refine lv_aload_n hx hb dX10_clears_65 rfl (lv_at hl 2 rfl) ?_
      obtain ⟨fs15, x15_, e15, f15, hF⟩ := gQ_s hF
      refine h_get (C := RX10) (T := TX10) (N := 4) hx hb hts in_X10 hown hGr hr e15 (by decide) rfl 0 (by decide) (hts _ q1110) (fun _ h9 => h9) f15 dX10_clears_66 ?_
      obtain ⟨fs16, x16_, e16, f16, hF⟩ := gI_s hF
      refine h_getN (C := RX3) (T := TX3) (N := 2) hx hb hts in_X3 hown hGr hr e16 (by decide) rfl 0 (by decide) (va_Nw.use rfl (hGr.nw q166 rfl)) (fun _ h9 => h9) f16 dX10_clears_69 ?_
      refine lv_aload_n hx hb dX10_clears_72 rfl (lv_at hl 2 rfl) ?_
      obtain ⟨fs17, x17_, e17, f17, hF⟩ := gI_s hF
      refine h_get (C := RX10) (T := TX10) (N := 4) hx hb hts in_X10 hown hGr hr e17 (by decide) rfl 3 (by decide) (hts _ q1114) (fun _ h9 => h9) f17 dX10_clears_73 ?_
      refine lv_isub hx hb dX10_clears_76 ?_
      refine lv_aload_n hx hb dX10_clears_77 rfl (lv_at hl 0 rfl) ?_
      refine lv_iload_n hx hb dX10_clears_78 rfl (lv_at hl 3 rfl) ?_
      obtain ⟨n18, f18, e18, g18, hF⟩ := aI_s hF
      obtain ⟨x18_, ex18⟩ : ∃ z, z = f18 (p1).toNatClampNeg := ⟨_, rfl⟩
      rw [← ex18] at hF
      refine h_iald hx hb hGr hr 0 rfl e18 g18 dX10_clears_79 ?_
      rw [← ex18]
      refine lv_imul hx hb dX10_clears_80 ?_
      refine lv_aload_n hx hb dX10_clears_81 rfl (lv_at hl 2 rfl) ?_
      obtain ⟨fs19, x19_, e19, f19, hF⟩ := gQ_s hF
      refine h_get (C := RX10) (T := TX10) (N := 4) hx hb hts in_X10 hown hGr hr e19 (by decide) rfl 0 (by decide) (hts _ q1110) (fun _ h9 => h9) f19 dX10_clears_82 ?_
      obtain ⟨fs20, x20_, e20, f20, hF⟩ := gI_s hF
      refine h_getN (C := RX3) (T := TX3) (N := 2) hx hb hts in_X3 hown hGr hr e20 (by decide) rfl 0 (by decide) (va_Nw.use rfl (hGr.nw q166 rfl)) (fun _ h9 => h9) f20 dX10_clears_85 ?_
      obtain ⟨g21, hF⟩ := gd_s hF
      refine lv_irem hx hb dX10_clears_88 (nz_of g21) ?_
      obtain ⟨fs22, e22, k22, lo22, hF⟩ := pV_s hF
      obtain ⟨h22, eh22⟩ : ∃ z, z = hPut h12 a0 (.inr (9, fs22.set 3 (.int (((x16_ - x17_) * x18_) - ((x16_ - x17_) * x18_) / x20_ * x20_)))) := ⟨_, rfl⟩
      rw [← eh22] at hF
      refine h_put (C := RX10) (T := TX10) (N := 4) hx hb hts in_X10 tyX10 tyX10_ok nmX10 hown hGr hr hS e22 (by decide) rfl 3 (by decide) (hts _ q1114) (fun _ h9 => h9) rfl (tyX10_ok 3 (by decide)) rfl rfl k22 lo22 dX10_clears_89 (fun H locs hr hS => ?_)
      rw [← eh22] at hr
      replace hc := cst_put hc eh22
      refine lv_aload_n hx hb dX10_clears_92 rfl (lv_at hl 2 rfl) ?_
      obtain ⟨fs23, x23_, e23, f23, hF⟩ := gQ_s hF
      refine h_get (C := RX10) (T := TX10) (N := 4) hx hb hts in_X10 hown hGr hr e23 (by decide) rfl 0 (by decide) (hts _ q1110) (fun _ h9 => h9) f23 dX10_clears_93 ?_
      obtain ⟨fs24, x24_, e24, f24, hF⟩ := gQ_s hF
      refine h_getN (C := RX3) (T := TX3) (N := 2) hx hb hts in_X3 hown hGr hr e24 (by decide) rfl 1 (by decide) (va_Nw.use rfl (hGr.nw q171 rfl)) (fun _ h9 => h9) f24 dX10_clears_96 ?_
      refine lv_aload_n hx hb dX10_clears_99 rfl (lv_at hl 0 rfl) ?_
      refine lv_iload_n hx hb dX10_clears_100 rfl (lv_at hl 3 rfl) ?_
      obtain ⟨n25, f25, e25, g25, hF⟩ := aI_s hF
      obtain ⟨x25_, ex25⟩ : ∃ z, z = f25 (p1).toNatClampNeg := ⟨_, rfl⟩
      rw [← ex25] at hF
      refine h_iald hx hb hGr hr 0 rfl e25 g25 dX10_clears_101 ?_
      rw [← ex25]
      obtain ⟨n26, f26, e26, g26, hF⟩ := aI_s hF
      obtain ⟨x26_, ex26⟩ : ∃ z, z = f26 (x25_).toNatClampNeg := ⟨_, rfl⟩
      rw [← ex26] at hF
      refine h_iald hx hb hGr hr 0 rfl e26 g26 dX10_clears_102 ?_
      rw [← ex26]
      refine lv_istore (lv' := [(4, .int x26_), (3, .ref x4_), (2, .int r1), (0, .ref a0), (1, .int p1)]) hx hb dX10_clears_103 hl (by decide) rfl (fun ls hl => ?_)
      refine lv_iload_n hx hb dX10_clears_105 rfl (lv_at hl 4 rfl) ?_
      refine lv_istore (lv' := [(5, .int p1), (4, .int x26_), (3, .ref x4_), (2, .int r1), (0, .ref a0), (1, .int p1)]) hx hb dX10_clears_106 hl (by decide) rfl (fun ls hl => ?_)
      exact lp1 h22 a0 p1 r1 x4_ x26_ p1 hF _ _ _ _ hc hr hS ls (lv_sub hl [4, 5, 3, 2, 1, 0] rfl)
    · replace hF := it_t c14 hF
      refine lv_aload_n hx hb dX10_clears_58 rfl (lv_at hl 2 rfl) ?_
      obtain ⟨fs27, x27_, e27, f27, hF⟩ := gI_s hF
      refine h_get (C := RX10) (T := TX10) (N := 4) hx hb hts in_X10 hown hGr hr e27 (by decide) rfl 3 (by decide) (hts _ q1114) (fun _ h9 => h9) f27 dX10_clears_59 ?_
      refine lv_goto (tgt := 77) hx hb dX10_clears_62 (by decide) ?_
      refine lv_aload_n hx hb dX10_clears_77 rfl (lv_at hl 0 rfl) ?_
      refine lv_iload_n hx hb dX10_clears_78 rfl (lv_at hl 3 rfl) ?_
      obtain ⟨n28, f28, e28, g28, hF⟩ := aI_s hF
      obtain ⟨x28_, ex28⟩ : ∃ z, z = f28 (p1).toNatClampNeg := ⟨_, rfl⟩
      rw [← ex28] at hF
      refine h_iald hx hb hGr hr 0 rfl e28 g28 dX10_clears_79 ?_
      rw [← ex28]
      refine lv_imul hx hb dX10_clears_80 ?_
      refine lv_aload_n hx hb dX10_clears_81 rfl (lv_at hl 2 rfl) ?_
      obtain ⟨fs29, x29_, e29, f29, hF⟩ := gQ_s hF
      refine h_get (C := RX10) (T := TX10) (N := 4) hx hb hts in_X10 hown hGr hr e29 (by decide) rfl 0 (by decide) (hts _ q1110) (fun _ h9 => h9) f29 dX10_clears_82 ?_
      obtain ⟨fs30, x30_, e30, f30, hF⟩ := gI_s hF
      refine h_getN (C := RX3) (T := TX3) (N := 2) hx hb hts in_X3 hown hGr hr e30 (by decide) rfl 0 (by decide) (va_Nw.use rfl (hGr.nw q166 rfl)) (fun _ h9 => h9) f30 dX10_clears_85 ?_
      obtain ⟨g31, hF⟩ := gd_s hF
      refine lv_irem hx hb dX10_clears_88 (nz_of g31) ?_
      obtain ⟨fs32, e32, k32, lo32, hF⟩ := pV_s hF
      obtain ⟨h32, eh32⟩ : ∃ z, z = hPut h12 a0 (.inr (9, fs32.set 3 (.int ((x27_ * x28_) - (x27_ * x28_) / x30_ * x30_)))) := ⟨_, rfl⟩
      rw [← eh32] at hF
      refine h_put (C := RX10) (T := TX10) (N := 4) hx hb hts in_X10 tyX10 tyX10_ok nmX10 hown hGr hr hS e32 (by decide) rfl 3 (by decide) (hts _ q1114) (fun _ h9 => h9) rfl (tyX10_ok 3 (by decide)) rfl rfl k32 lo32 dX10_clears_89 (fun H locs hr hS => ?_)
      rw [← eh32] at hr
      replace hc := cst_put hc eh32
      refine lv_aload_n hx hb dX10_clears_92 rfl (lv_at hl 2 rfl) ?_
      obtain ⟨fs33, x33_, e33, f33, hF⟩ := gQ_s hF
      refine h_get (C := RX10) (T := TX10) (N := 4) hx hb hts in_X10 hown hGr hr e33 (by decide) rfl 0 (by decide) (hts _ q1110) (fun _ h9 => h9) f33 dX10_clears_93 ?_
      obtain ⟨fs34, x34_, e34, f34, hF⟩ := gQ_s hF
      refine h_getN (C := RX3) (T := TX3) (N := 2) hx hb hts in_X3 hown hGr hr e34 (by decide) rfl 1 (by decide) (va_Nw.use rfl (hGr.nw q171 rfl)) (fun _ h9 => h9) f34 dX10_clears_96 ?_
      refine lv_aload_n hx hb dX10_clears_99 rfl (lv_at hl 0 rfl) ?_
      refine lv_iload_n hx hb dX10_clears_100 rfl (lv_at hl 3 rfl) ?_
      obtain ⟨n35, f35, e35, g35, hF⟩ := aI_s hF
      obtain ⟨x35_, ex35⟩ : ∃ z, z = f35 (p1).toNatClampNeg := ⟨_, rfl⟩
      rw [← ex35] at hF
      refine h_iald hx hb hGr hr 0 rfl e35 g35 dX10_clears_101 ?_
      rw [← ex35]
      obtain ⟨n36, f36, e36, g36, hF⟩ := aI_s hF
      obtain ⟨x36_, ex36⟩ : ∃ z, z = f36 (x35_).toNatClampNeg := ⟨_, rfl⟩
      rw [← ex36] at hF
      refine h_iald hx hb hGr hr 0 rfl e36 g36 dX10_clears_102 ?_
      rw [← ex36]
      refine lv_istore (lv' := [(4, .int x36_), (3, .ref x4_), (2, .int r1), (0, .ref a0), (1, .int p1)]) hx hb dX10_clears_103 hl (by decide) rfl (fun ls hl => ?_)
      refine lv_iload_n hx hb dX10_clears_105 rfl (lv_at hl 4 rfl) ?_
      refine lv_istore (lv' := [(5, .int p1), (4, .int x36_), (3, .ref x4_), (2, .int r1), (0, .ref a0), (1, .int p1)]) hx hb dX10_clears_106 hl (by decide) rfl (fun ls hl => ?_)
      exact lp1 h32 a0 p1 r1 x4_ x36_ p1 hF _ _ _ _ hc hr hS ls (lv_sub hl [4, 5, 3, 2, 1, 0] rfl)
  · replace hF := it_t c2 hF
    refine lv_aload_n hx hb dX10_clears_11 rfl (lv_at hl 1 rfl) ?_
    refine lv_iconst (v := 0) hx hb dX10_clears_12 (by decide) ?_
    obtain ⟨fs37, e37, k37, lo37, hF⟩ := pV_s hF
    obtain ⟨h37, eh37⟩ : ∃ z, z = hPut u1 a0 (.inr (9, fs37.set 3 (.int 0))) := ⟨_, rfl⟩
    rw [← eh37] at hF
    refine h_put (C := RX10) (T := TX10) (N := 4) hx hb hts in_X10 tyX10 tyX10_ok nmX10 hown hGr hr hS e37 (by decide) rfl 3 (by decide) (hts _ q1114) (fun _ h9 => h9) rfl (tyX10_ok 3 (by decide)) rfl rfl k37 lo37 dX10_clears_13 (fun H locs hr hS => ?_)
    rw [← eh37] at hr
    replace hc := cst_put hc eh37
    have bz := bud_r hc hF hmc hms
    refine W.widen (k := mc) (n := ms) bz.1 bz.2 ?_
    exact W.vret hx hb hret (fun t ht hWm => ⟨⟨h37, rfl, Option.some.inj hF, h_end hGr hr hS ht hWm⟩, hS.F ht⟩) hS.2.2 dX10_clears_16

def GX10_init_2_1 (R : Nat → Hp → Nat → Nat → Int32 → Nat → Int32 → Option (Int32 × Hp)) (n : Nat) (h : Hp) (b0 : Nat) (b1 : Nat) (x2 : Int32) (b3 : Nat) (x4 : Int32) : Option (Int32 × Hp) := if x2 ≤ x4 then some (0, h) else gC h b0 9 (bnd (GX10_clears n h b0 x4) (fun r5 u5 => R 1 u5 b0 b1 x2 b3 (x4 + 1)))
def GX10_init_2_r : Nat → Nat → Hp → Nat → Nat → Int32 → Nat → Int32 → Option (Int32 × Hp)
  | 0 => fun _ _ _ _ _ _ _ => none
  | n + 1 => fun k => match k with  | _ => GX10_init_2_1 (GX10_init_2_r n) n
def GX10_init_2_0 (R : Nat → Hp → Nat → Nat → Int32 → Nat → Int32 → Option (Int32 × Hp)) (n : Nat) (h : Hp) (a0 : Nat) (a1 : Nat) (p2 : Int32) (a3 : Nat) : Option (Int32 × Hp) := pV h a0 9 3 (.int 1) (fun h1 => pV h1 a0 9 0 (.ref a1) (fun h2 => pV h2 a0 9 1 (.ref a3) (fun h3 => R 1 h3 a0 a1 p2 a3 (0 : Int32))))
def GX10_init_2 (n : Nat) (h : Hp) (a0 : Nat) (a1 : Nat) (p2 : Int32) (a3 : Nat) : Option (Int32 × Hp) := GX10_init_2_0 (GX10_init_2_r n) n h a0 a1 p2 a3
theorem moX10_init_2_r (n : Nat) : (∀ (h : Hp) (b0 : Nat) (b1 : Nat) (x2 : Int32) (b3 : Nat) (x4 : Int32), Mo h (GX10_init_2_r n 1 h b0 b1 x2 b3 x4)) := by
  induction n with
  | zero => exact (fun _ _ _ _ _ _ => mo_no)
  | succ n ih =>
    have ml1 := ih
    exact (fun h b0 b1 x2 b3 x4 => show Mo h (GX10_init_2_1 (GX10_init_2_r n) n h b0 b1 x2 b3 x4) from by unfold GX10_init_2_1; exact mo_ite (mo_ret hle_rf) (mo_gC (mo_bnd (moX10_clears n h b0 x4) hle_rf (fun r5 u5 m5 => mo_tr m5 (ml1 u5 b0 b1 x2 b3 (x4 + 1))))))
theorem moX10_init_2 (n : Nat) (h : Hp) (a0 : Nat) (a1 : Nat) (p2 : Int32) (a3 : Nat) : Mo h (GX10_init_2 n h a0 a1 p2 a3) := by
  have ml1 := moX10_init_2_r n
  unfold GX10_init_2 GX10_init_2_0
  exact mo_pV hle_rf (fun h1 m1 => mo_pV m1 (fun h2 m2 => mo_pV m2 (fun h3 m3 => mo_tr m3 (ml1 h3 a0 a1 p2 a3 (0 : Int32)))))
set_option maxHeartbeats 4000000 in
set_option maxRecDepth 100000 in
theorem mgX10_init_2 (l : Launch) (D : HD) (A : Nat → Prop) (h : Hp) (n : Nat) (a0 : Nat) (a1 : Nat) (p2 : Int32) (a3 : Nat) (out : Int32 × Hp) (hF : GX10_init_2 n h a0 a1 p2 a3 = some out) (mc ms : Nat) (hmc : hCc out.2 = hCc h + mc) (hms : hSl out.2 = hSl h + ms) : Met l yX10_init_2 (ws_ yX10_init_2 cX10_init_2 5 none) ({ frames := 3, cells := mc, slots := ms, locals := 72 }) (va_Pc [.ref a0, .ref a1, .int p2, .ref a3] (hW D A h)) (va_Qv (fun u => (0, u) = out) (hW D A) A) mc ms A := by
  refine Met.ofW (cc := cX10_init_2) (maxL := 5) (ret := none) (by decide +kernel) rfl ?_
  intro p e s m args below meth c s₁ B hml hv
  obtain ⟨rfl, hr, hGr⟩ := hv
  have hx := B.exec
  have hb := B.bytes
  have hret := B.returns
  have hts := atoms_spec (ws := (ws_ yX10_init_2 cX10_init_2 5 none)) B.pre
  have hts : ∀ w ∈ lw_all, w.before _ s = true := fun w h => hts w (List.mem_cons_of_mem _ h)
  have hown : s.vm.findClass RX10 = some m.cls := findClass_of_methodNamed B.named
  have hlocks := B.notSynchronized
  have hin : meth.name = "<init>" := (name_of_methodNamed B.named B.method).1
  have hS : va_S A s.heap s.heap [] := va_S.rf
  have hc : cst h 0 0 h := cst_0
  have hl := lv_entry ([.ref a0, .ref a1, .int p2, .ref a3]) (n := 5) (Nat.le_of_ble_eq_true rfl)
  rw [lg_entry_eq]
  generalize (lg_sl ([.ref a0, .ref a1, .int p2, .ref a3]) ++ List.replicate (5 - (lg_sl ([.ref a0, .ref a1, .int p2, .ref a3])).length) Slot.unset).toArray = ls at hl ⊢
  have hl : lv_has ls 5 [(0, .ref a0), (1, .ref a1), (2, .int p2), (3, .ref a3)] := hl
  obtain ⟨h0, eh0⟩ : ∃ z, z = h := ⟨_, rfl⟩
  rw [← eh0] at hmc hms
  have loop : ∀ n : Nat, (∀ (h : Hp) (b0 : Nat) (b1 : Nat) (x2 : Int32) (b3 : Nat) (x4 : Int32), GX10_init_2_r n 1 h b0 b1 x2 b3 x4 = some out → ∀ (H : Heap) (locs : List Loc) (cells slots : Nat), cst h0 cells slots h → hR D A h H → va_S A s.heap H locs → ∀ ls : Array Slot, lv_has ls 5 [(0, .ref b0), (1, .ref b1), (2, .int x2), (3, .ref b3), (4, .int x4)] → W p l e (headSpec (ws_ yX10_init_2 cX10_init_2 5 none) ({ frames := 3, cells := mc, slots := ms, locals := 72 })).room s m ([.ref a0, .ref a1, .int p2, .ref a3] : List Value).toArray below meth c H locs cells slots (MQ below (va_Qv (fun u => (0, u) = out) (hW D A) A) ([.ref a0, .ref a1, .int p2, .ref a3] : List Value).toArray s mc ms A) (F0 m 22 ls [])) := by
    intro n
    induction n with
    | zero => exact (fun _ _ _ _ _ _ h => nomatch h)
    | succ n ih =>
      have lp1 := ih
      have ml1 := moX10_init_2_r n
      intro h b0 b1 x2 b3 x4 hF H locs cells slots hc hr hS ls hl
      replace hF : GX10_init_2_1 (GX10_init_2_r n) n h b0 b1 x2 b3 x4 = some out := hF
      unfold GX10_init_2_1 at hF
      refine lv_iload hx hb dX10_init_2_22 (lv_at hl 4 rfl) ?_
      refine lv_iload_n hx hb dX10_init_2_24 rfl (lv_at hl 2 rfl) ?_
      refine lv_icmp_ge (tgt := 40) hx hb dX10_init_2_25 (by decide) (fun c4 => ?_) (fun c4 => ?_)
      · replace hF := it_t c4 hF
        have bz := bud_r hc hF hmc hms
        refine W.widen (k := mc) (n := ms) bz.1 bz.2 ?_
        exact W.vret hx hb hret (fun t ht hWm => ⟨⟨h, rfl, Option.some.inj hF, h_end hGr hr hS ht hWm⟩, hS.F ht⟩) hS.2.2 dX10_init_2_40
      · replace hF := it_f c4 hF
        refine lv_aload_n hx hb dX10_init_2_28 rfl (lv_at hl 0 rfl) ?_
        refine lv_iload hx hb dX10_init_2_29 (lv_at hl 4 rfl) ?_
        obtain ⟨fc5, ec5, hF⟩ := gC_s hF
        obtain ⟨r5, u5, e5, hF⟩ := bnd_s hF
        have mm5 : hle u5 out.2 := (show Mo u5 _ from mo_tr hle_rf (ml1 u5 b0 b1 x2 b3 (x4 + 1))) _ hF
        obtain ⟨mc5, ms5, hmc5, hms5⟩ := up_of (moX10_clears n h b0 x4 _ e5)
        replace hc := cst_call hc hmc5 hms5
        refine h_callv (va_runV (As := [.int x4]) (rest := []) ⟨hx, hb, hml, hown, hts⟩ (mgX10_clears l D A h n b0 x4 _ e5 mc5 ms5 hmc5 hms5) (cwV 1 hts (lw_V q1097 q1099 qs19 q141 q1100) rfl rfl rfl (by decide +kernel) ⟨Nat.le_of_ble_eq_true rfl, Nat.le_of_ble_eq_true rfl⟩) (h_preV hGr hr hS ec5 (by decide) (q := (RX10, TX10, 4)) rfl _) rfl rfl hl.1 rfl (lv_room (Nat.le_of_ble_eq_true rfl)) dX10_init_2_31 ⟨(bud hc mm5 hmc hms).1, (bud hc mm5 hmc hms).2⟩) hS (fun uu H locs hw hr hS => ?_)
        obtain rfl : u5 = uu := (congrArg Prod.snd hw).symm
        refine lv_iinc (v := (x4 + 1)) (lv' := [(4, .int (x4 + 1)), (0, .ref b0), (1, .ref b1), (2, .int x2), (3, .ref b3)]) hx hb dX10_init_2_34 hl (k := 4) rfl rfl (by decide) rfl (fun ls hl => ?_)
        refine lv_goto (tgt := 22) hx hb dX10_init_2_37 (by decide) ?_
        exact lp1 u5 b0 b1 x2 b3 (x4 + 1) hF _ _ _ _ hc hr hS ls (lv_sub hl [1, 2, 3, 4, 0] rfl)
  have lp1 := loop n
  have ml1 := moX10_init_2_r n
  have hc : cst h0 0 0 h := by rw [eh0]; exact cst_0
  unfold GX10_init_2 GX10_init_2_0 at hF
  refine lv_aload_n hx hb dX10_init_2_0 rfl (lv_at hl 0 rfl) ?_
  refine W.objInit hx hb hown (hts _ q1096) (hts _ q149) (hts _ q150) rfl (by rw [hml]; exact hl.1) rfl dX10_init_2_1 (Nat.le_of_ble_eq_true rfl) (Nat.le_of_ble_eq_true rfl) ?_
  refine W.eq (g2 := F0 m 4 ls []) rfl ?_
  refine lv_aload_n hx hb dX10_init_2_4 rfl (lv_at hl 0 rfl) ?_
  refine lv_iconst (v := 1) hx hb dX10_init_2_5 (by decide) ?_
  obtain ⟨fs1, e1, k1, lo1, hF⟩ := pV_s hF
  obtain ⟨h1, eh1⟩ : ∃ z, z = hPut h a0 (.inr (9, fs1.set 3 (.int 1))) := ⟨_, rfl⟩
  rw [← eh1] at hF
  refine h_put (C := RX10) (T := TX10) (N := 4) hx hb hts in_X10 tyX10 tyX10_ok nmX10 hown hGr hr hS e1 (by decide) rfl 3 (by decide) (hts _ q1114) (fun _ h9 => h9) rfl (tyX10_ok 3 (by decide)) rfl rfl k1 lo1 dX10_init_2_6 (fun H locs hr hS => ?_)
  rw [← eh1] at hr
  replace hc := cst_put hc eh1
  refine lv_aload_n hx hb dX10_init_2_9 rfl (lv_at hl 0 rfl) ?_
  refine lv_aload_n hx hb dX10_init_2_10 rfl (lv_at hl 1 rfl) ?_
  obtain ⟨fs2, e2, k2, lo2, hF⟩ := pV_s hF
  obtain ⟨h2, eh2⟩ : ∃ z, z = hPut h1 a0 (.inr (9, fs2.set 0 (.ref a1))) := ⟨_, rfl⟩
  rw [← eh2] at hF
  refine h_putF (C := RX10) (T := TX10) (N := 4) hx hb hts in_X10 tyX10 tyX10_ok nmX10 hown hGr hr hS e2 (by decide) rfl 0 (by decide) (hts _ q1110) (fun _ h9 => h9) rfl hin rfl (tyX10_ok 0 (by decide)) rfl rfl k2 lo2 dX10_init_2_11 (fun H locs hr hS => ?_)
  rw [← eh2] at hr
  replace hc := cst_put hc eh2
  refine lv_aload_n hx hb dX10_init_2_14 rfl (lv_at hl 0 rfl) ?_
  refine lv_aload_n hx hb dX10_init_2_15 rfl (lv_at hl 3 rfl) ?_
  obtain ⟨fs3, e3, k3, lo3, hF⟩ := pV_s hF
  obtain ⟨h3, eh3⟩ : ∃ z, z = hPut h2 a0 (.inr (9, fs3.set 1 (.ref a3))) := ⟨_, rfl⟩
  rw [← eh3] at hF
  refine h_putF (C := RX10) (T := TX10) (N := 4) hx hb hts in_X10 tyX10 tyX10_ok nmX10 hown hGr hr hS e3 (by decide) rfl 1 (by decide) (hts _ q1111) (fun _ h9 => h9) rfl hin rfl (tyX10_ok 1 (by decide)) rfl rfl k3 lo3 dX10_init_2_16 (fun H locs hr hS => ?_)
  rw [← eh3] at hr
  replace hc := cst_put hc eh3
  refine lv_iconst (v := 0) hx hb dX10_init_2_19 (by decide) ?_
  refine lv_istore (lv' := [(4, .int 0), (0, .ref a0), (1, .ref a1), (2, .int p2), (3, .ref a3)]) hx hb dX10_init_2_20 hl (by decide) rfl (fun ls hl => ?_)
  exact lp1 h3 a0 a1 p2 a3 (0 : Int32) hF _ _ _ _ hc hr hS ls (lv_sub hl [1, 2, 3, 4, 0] rfl)

def GX10_init (n : Nat) (h : Hp) (a0 : Nat) (a1 : Nat) (a2 : Nat) : Option (Int32 × Hp) := aL h a2 (fun x1_ => if x1_ = 0 then bnd (GX10_init_2 n h a0 a1 (0 : Int32) a2) (fun r6 u6 => some (0, u6)) else aQ h a2 4 (0 : Int32) (fun x3_ => aL h x3_ (fun x4_ => bnd (GX10_init_2 n h a0 a1 x4_ a2) (fun r5 u5 => some (0, u5)))))
theorem moX10_init (n : Nat) (h : Hp) (a0 : Nat) (a1 : Nat) (a2 : Nat) : Mo h (GX10_init n h a0 a1 a2) := by
  unfold GX10_init
  exact mo_aL (fun x1_ => mo_ite (mo_bnd (moX10_init_2 n h a0 a1 (0 : Int32) a2) hle_rf (fun r6 u6 m6 => mo_ret m6)) (mo_aQ (fun x3_ => mo_aL (fun x4_ => mo_bnd (moX10_init_2 n h a0 a1 x4_ a2) hle_rf (fun r5 u5 m5 => mo_ret m5)))))
set_option maxHeartbeats 4000000 in
set_option maxRecDepth 100000 in
theorem mgX10_init (l : Launch) (D : HD) (A : Nat → Prop) (h : Hp) (n : Nat) (a0 : Nat) (a1 : Nat) (a2 : Nat) (out : Int32 × Hp) (hF : GX10_init n h a0 a1 a2 = some out) (mc ms : Nat) (hmc : hCc out.2 = hCc h + mc) (hms : hSl out.2 = hSl h + ms) : Met l yX10_init (ws_ yX10_init cX10_init 3 none) ({ frames := 4, cells := mc, slots := ms, locals := 96 }) (va_Pc [.ref a0, .ref a1, .ref a2] (hW D A h)) (va_Qv (fun u => (0, u) = out) (hW D A) A) mc ms A := by
  refine Met.ofW (cc := cX10_init) (maxL := 3) (ret := none) (by decide +kernel) rfl ?_
  intro p e s m args below meth c s₁ B hml hv
  obtain ⟨rfl, hr, hGr⟩ := hv
  have hx := B.exec
  have hb := B.bytes
  have hret := B.returns
  have hts := atoms_spec (ws := (ws_ yX10_init cX10_init 3 none)) B.pre
  have hts : ∀ w ∈ lw_all, w.before _ s = true := fun w h => hts w (List.mem_cons_of_mem _ h)
  have hown : s.vm.findClass RX10 = some m.cls := findClass_of_methodNamed B.named
  have hlocks := B.notSynchronized
  have hin : meth.name = "<init>" := (name_of_methodNamed B.named B.method).1
  have hS : va_S A s.heap s.heap [] := va_S.rf
  have hc : cst h 0 0 h := cst_0
  have hl := lv_entry ([.ref a0, .ref a1, .ref a2]) (n := 3) (Nat.le_of_ble_eq_true rfl)
  rw [lg_entry_eq]
  generalize (lg_sl ([.ref a0, .ref a1, .ref a2]) ++ List.replicate (3 - (lg_sl ([.ref a0, .ref a1, .ref a2])).length) Slot.unset).toArray = ls at hl ⊢
  have hl : lv_has ls 3 [(0, .ref a0), (1, .ref a1), (2, .ref a2)] := hl
  unfold GX10_init at hF
  refine lv_aload_n hx hb dX10_init_0 rfl (lv_at hl 0 rfl) ?_
  refine lv_aload_n hx hb dX10_init_1 rfl (lv_at hl 1 rfl) ?_
  refine lv_aload_n hx hb dX10_init_2 rfl (lv_at hl 2 rfl) ?_
  obtain ⟨k1, y1, e1, g1, hF⟩ := aL_s hF
  obtain ⟨x1_, ex1⟩ : ∃ z, z = Int32.ofNat y1.1 := ⟨_, rfl⟩
  rw [← ex1] at hF
  refine h_alen hx hb hGr hr e1 g1 dX10_init_3 ?_
  rw [← ex1]
  refine lv_if_ne (tgt := 11) hx hb dX10_init_4 (by decide) (fun c2 => ?_) (fun c2 => ?_)
  · replace hF := it_f c2 hF
    refine lv_aload_n hx hb dX10_init_11 rfl (lv_at hl 2 rfl) ?_
    refine lv_iconst (v := 0) hx hb dX10_init_12 (by decide) ?_
    obtain ⟨n3, f3, x3_, e3, g3, ex3, hF⟩ := aQ_s hF
    refine h_aald hx hb hGr hr (by decide) e3 g3 dX10_init_13 (v := .ref x3_) (by rw [ex3]; rfl) ?_
    obtain ⟨k4, y4, e4, g4, hF⟩ := aL_s hF
    obtain ⟨x4_, ex4⟩ : ∃ z, z = Int32.ofNat y4.1 := ⟨_, rfl⟩
    rw [← ex4] at hF
    refine h_alen hx hb hGr hr e4 g4 dX10_init_14 ?_
    rw [← ex4]
    refine lv_aload_n hx hb dX10_init_15 rfl (lv_at hl 2 rfl) ?_
    obtain ⟨r5, u5, e5, hF⟩ := bnd_s hF
    have mm5 : hle u5 out.2 := (show Mo u5 _ from mo_ret hle_rf) _ hF
    obtain ⟨mc5, ms5, hmc5, hms5⟩ := up_of (moX10_init_2 n h a0 a1 x4_ a2 _ e5)
    replace hc := cst_call hc hmc5 hms5
    refine h_callv (va_runI (As := [.ref a1, .int x4_, .ref a2]) (rest := []) ⟨hx, hb, hml, hown, hts⟩ (mgX10_init_2 l D A h n a0 a1 x4_ a2 _ e5 mc5 ms5 hmc5 hms5) (cwI 3 hts (lw_meth q1095) rfl rfl rfl (hts _ q141) (hts _ q1093) (hts _ q1094) rfl (by decide +kernel) ⟨Nat.le_of_ble_eq_true rfl, Nat.le_of_ble_eq_true rfl⟩) (h_preS hGr hr hS _) rfl rfl hl.1 rfl (lv_room (Nat.le_of_ble_eq_true rfl)) dX10_init_16 ⟨(bud hc mm5 hmc hms).1, (bud hc mm5 hmc hms).2⟩) hS (fun uu H locs hw hr hS => ?_)
    obtain rfl : u5 = uu := (congrArg Prod.snd hw).symm
    have bz := bud_r hc hF hmc hms
    refine W.widen (k := mc) (n := ms) bz.1 bz.2 ?_
    exact W.vret hx hb hret (fun t ht hWm => ⟨⟨u5, rfl, Option.some.inj hF, h_end hGr hr hS ht hWm⟩, hS.F ht⟩) hS.2.2 dX10_init_19
  · replace hF := it_t c2 hF
    refine lv_iconst (v := 0) hx hb dX10_init_7 (by decide) ?_
    refine lv_goto (tgt := 15) hx hb dX10_init_8 (by decide) ?_
    refine lv_aload_n hx hb dX10_init_15 rfl (lv_at hl 2 rfl) ?_
    obtain ⟨r6, u6, e6, hF⟩ := bnd_s hF
    have mm6 : hle u6 out.2 := (show Mo u6 _ from mo_ret hle_rf) _ hF
    obtain ⟨mc6, ms6, hmc6, hms6⟩ := up_of (moX10_init_2 n h a0 a1 (0 : Int32) a2 _ e6)
    replace hc := cst_call hc hmc6 hms6
    refine h_callv (va_runI (As := [.ref a1, .int 0, .ref a2]) (rest := []) ⟨hx, hb, hml, hown, hts⟩ (mgX10_init_2 l D A h n a0 a1 (0 : Int32) a2 _ e6 mc6 ms6 hmc6 hms6) (cwI 3 hts (lw_meth q1095) rfl rfl rfl (hts _ q141) (hts _ q1093) (hts _ q1094) rfl (by decide +kernel) ⟨Nat.le_of_ble_eq_true rfl, Nat.le_of_ble_eq_true rfl⟩) (h_preS hGr hr hS _) rfl rfl hl.1 rfl (lv_room (Nat.le_of_ble_eq_true rfl)) dX10_init_16 ⟨(bud hc mm6 hmc hms).1, (bud hc mm6 hmc hms).2⟩) hS (fun uu H locs hw hr hS => ?_)
    obtain rfl : u6 = uu := (congrArg Prod.snd hw).symm
    have bz := bud_r hc hF hmc hms
    refine W.widen (k := mc) (n := ms) bz.1 bz.2 ?_
    exact W.vret hx hb hret (fun t ht hWm => ⟨⟨u6, rfl, Option.some.inj hF, h_end hGr hr hS ht hWm⟩, hS.F ht⟩) hS.2.2 dX10_init_19
