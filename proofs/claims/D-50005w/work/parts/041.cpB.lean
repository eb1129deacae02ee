/-! the component and what it calls of the library, walked by program (tool/dc.py): G.. the pure function, mo.. its growth, mg.. the contract -/
def GJ28_init (h : Hp) (a0 : Nat) : Option (Int32 × Hp) := some (0, h)
theorem moJ28_init (h : Hp) (a0 : Nat) : Mo h (GJ28_init h a0) := by
  unfold GJ28_init
  exact mo_ret hle_rf
set_option maxHeartbeats 4000000 in
set_option maxRecDepth 100000 in
theorem mgJ28_init (l : Launch) (D : HD) (A : Nat → Prop) (h : Hp) (a0 : Nat) (out : Int32 × Hp) (hF : GJ28_init h a0 = some out) (mc ms : Nat) (hmc : hCc out.2 = hCc h + mc) (hms : hSl out.2 = hSl h + ms) : Met l yJ28_init (ws_ yJ28_init cJ28_init 1 none) ({ frames := 1, cells := mc, slots := ms, locals := 20 }) (va_Pc [.ref a0] (hW D A h)) (va_Qv (fun u => (0, u) = out) (hW D A) A) mc ms A := by
  refine va_MetF (cc := cJ28_init) (maxL := 1) (ret := none) (by decide +kernel) rfl ?_
  intro p e s m args below meth c s₁ B hml hv
  obtain ⟨rfl, hr, hGr⟩ := hv
  have hx := B.exec
  have hb := B.bytes
  have hret := B.returns
  have hts := atoms_spec (ws := (ws_ yJ28_init cJ28_init 1 none)) B.pre
  have hts : ∀ w ∈ lw_all, w.before _ s = true := fun w h => hts w (List.mem_cons_of_mem _ h)
  have hown : s.vm.findClass RJ28 = some m.cls := findClass_of_methodNamed B.named
  have hlocks := B.notSynchronized
  have hin : meth.name = "<init>" := (name_of_methodNamed B.named B.method).1
  have hS : va_S A s.heap s.heap [] := va_S.rf
  have hc : cst h 0 0 h := cst_0
  have hl := lv_entry ([.ref a0]) (n := 1) (Nat.le_of_ble_eq_true rfl)
  rw [lg_entry_eq]
  generalize (lg_sl ([.ref a0]) ++ List.replicate (1 - (lg_sl ([.ref a0])).length) Slot.unset).toArray = ls at hl ⊢
  have hl : lv_has ls 1 [(0, .ref a0)] := hl
  unfold GJ28_init at hF
  refine lv_aload_n hx hb dJ28_init_0 rfl (lv_at hl 0 rfl) ?_
  refine W.objInit hx hb hown (hts _ q886) (hts _ q149) (hts _ q150) rfl (by rw [hml]; exact hl.1) rfl dJ28_init_1 (Nat.le_of_ble_eq_true rfl) (Nat.le_of_ble_eq_true rfl) ?_
  refine W.eq (g2 := F0 m 4 ls []) rfl ?_
  have bz := bud_r hc hF hmc hms
  refine W.widen (k := mc) (n := ms) bz.1 bz.2 ?_
  exact W.vret hx hb hret (fun t ht hWm => ⟨⟨h, rfl, Option.some.inj hF, h_end hGr hr hS ht hWm⟩, hS.F ht⟩) hS.2.2 dJ28_init_4

def GX8_init (h : Hp) (a0 : Nat) (p1 : Int32) (p2 : Int32) (p3 : Int32) : Option (Int32 × Hp) := bnd (GJ28_init h a0) (fun r1 u1 => pV u1 a0 7 0 (.int p1) (fun h2 => pV h2 a0 7 1 (.int p2) (fun h3 => pV h3 a0 7 2 (.int p3) (fun h4 => some (0, h4)))))
theorem moX8_init (h : Hp) (a0 : Nat) (p1 : Int32) (p2 : Int32) (p3 : Int32) : Mo h (GX8_init h a0 p1 p2 p3) := by
  unfold GX8_init
  exact mo_bnd (moJ28_init h a0) hle_rf (fun r1 u1 m1 => mo_pV m1 (fun h2 m2 => mo_pV m2 (fun h3 m3 => mo_pV m3 (fun h4 m4 => mo_ret m4))))
set_option maxHeartbeats 4000000 in
set_option maxRecDepth 100000 in
theorem mgX8_init (l : Launch) (D : HD) (A : Nat → Prop) (h : Hp) (a0 : Nat) (p1 : Int32) (p2 : Int32) (p3 : Int32) (out : Int32 × Hp) (hF : GX8_init h a0 p1 p2 p3 = some out) (mc ms : Nat) (hmc : hCc out.2 = hCc h + mc) (hms : hSl out.2 = hSl h + ms) : Met l yX8_init (ws_ yX8_init cX8_init 4 none) ({ frames := 2, cells := mc, slots := ms, locals := 40 }) (va_Pc [.ref a0, .int p1, .int p2, .int p3] (hW D A h)) (va_Qv (fun u => (0, u) = out) (hW D A) A) mc ms A := by
  refine Met.ofW (cc := cX8_init) (maxL := 4) (ret := none) (by decide +kernel) rfl ?_
  intro p e s m args below meth c s₁ B hml hv
  obtain ⟨rfl, hr, hGr⟩ := hv
  have hx := B.exec
  have hb := B.bytes
  have hret := B.returns
  have hts := atoms_spec (ws := (ws_ yX8_init cX8_init 4 none)) B.pre
  have hts : ∀ w ∈ lw_all, w.before _ s = true := fun w h => hts w (List.mem_cons_of_mem _ h)
  have hown : s.vm.findClass RX8 = some m.cls := findClass_of_methodNamed B.named
  have hlocks := B.notSynchronized
  have hin : meth.name = "<init>" := (name_of_methodNamed B.named B.method).1
  have hS : va_S A s.heap s.heap [] := va_S.rf
  have hc : cst h 0 0 h := cst_0
  have hl := lv_entry ([.ref a0, .int p1, .int p2, .int p3]) (n := 4) (Nat.le_of_ble_eq_true rfl)
  rw [lg_entry_eq]
  generalize (lg_sl ([.ref a0, .int p1, .int p2, .int p3]) ++ List.replicate (4 - (lg_sl ([.ref a0, .int p1, .int p2, .int p3])).length) Slot.unset).toArray = ls at hl ⊢
  have hl : lv_has ls 4 [(0, .ref a0), (1, .int p1), (2, .int p2), (3, .int p3)] := hl
  unfold GX8_init at hF
  refine lv_aload_n hx hb dX8_init_0 rfl (lv_at hl 0 rfl) ?_
  obtain ⟨r1, u1, e1, hF⟩ := bnd_s hF
  have mm1 : hle u1 out.2 := (show Mo u1 _ from mo_pV hle_rf (fun h2 m2 => mo_pV m2 (fun h3 m3 => mo_pV m3 (fun h4 m4 => mo_ret m4)))) _ hF
  obtain ⟨mc1, ms1, hmc1, hms1⟩ := up_of (moJ28_init h a0 _ e1)
  replace hc := cst_call hc hmc1 hms1
  refine h_callv (va_runI (As := []) (rest := []) ⟨hx, hb, hml, hown, hts⟩ (mgJ28_init l D A h a0 _ e1 mc1 ms1 hmc1 hms1) (cwI 0 hts (lw_meth q885) rfl rfl rfl (hts _ q138) (hts _ q883) (hts _ q884) rfl (by decide +kernel) ⟨Nat.le_of_ble_eq_true rfl, Nat.le_of_ble_eq_true rfl⟩) (h_preS hGr hr hS _) rfl rfl hl.1 rfl (lv_room (Nat.le_of_ble_eq_true rfl)) dX8_init_1 ⟨(bud hc mm1 hmc hms).1, (bud hc mm1 hmc hms).2⟩) hS (fun uu H locs hw hr hS => ?_)
  obtain rfl : u1 = uu := (congrArg Prod.snd hw).symm
  refine lv_aload_n hx hb dX8_init_4 rfl (lv_at hl 0 rfl) ?_
  refine lv_iload_n hx hb dX8_init_5 rfl (lv_at hl 1 rfl) ?_
  obtain ⟨fs2, e2, k2, lo2, hF⟩ := pV_s hF
  obtain ⟨h2, eh2⟩ : ∃ z, z = hPut u1 a0 (.inr (7, fs2.set 0 (.int p1))) := ⟨_, rfl⟩
  rw [← eh2] at hF
  refine h_putF (C := RX8) (T := TX8) (N := 3) hx hb hts in_X8 tyX8 tyX8_ok nmX8 hown hGr hr hS e2 (by decide) rfl 0 (by decide) (hts _ q887) (fun _ h9 => h9) rfl hin rfl (tyX8_ok 0 (by decide)) rfl rfl k2 lo2 dX8_init_6 (fun H locs hr hS => ?_)
  rw [← eh2] at hr
  replace hc := cst_put hc eh2
  refine lv_aload_n hx hb dX8_init_9 rfl (lv_at hl 0 rfl) ?_
  refine lv_iload_n hx hb dX8_init_10 rfl (lv_at hl 2 rfl) ?_
  obtain ⟨fs3, e3, k3, lo3, hF⟩ := pV_s hF
  obtain ⟨h3, eh3⟩ : ∃ z, z = hPut h2 a0 (.inr (7, fs3.set 1 (.int p2))) := ⟨_, rfl⟩
  rw [← eh3] at hF
  refine h_putF (C := RX8) (T := TX8) (N := 3) hx hb hts in_X8 tyX8 tyX8_ok nmX8 hown hGr hr hS e3 (by decide) rfl 1 (by decide) (hts _ q888) (fun _ h9 => h9) rfl hin rfl (tyX8_ok 1 (by decide)) rfl rfl k3 lo3 dX8_init_11 (fun H locs hr hS => ?_)
  rw [← eh3] at hr
  replace hc := cst_put hc eh3
  refine lv_aload_n hx hb dX8_init_14 rfl (lv_at hl 0 rfl) ?_
  refine lv_iload_n hx hb dX8_init_15 rfl (lv_at hl 3 rfl) ?_
  obtain ⟨fs4, e4, k4, lo4, hF⟩ := pV_s hF
  obtain ⟨h4, eh4⟩ : ∃ z, z = hPut h3 a0 (.inr (7, fs4.set 2 (.int p3))) := ⟨_, rfl⟩
  rw [← eh4] at hF
  refine h_putF (C := RX8) (T := TX8) (N := 3) hx hb hts in_X8 tyX8 tyX8_ok nmX8 hown hGr hr hS e4 (by decide) rfl 2 (by decide) (hts _ q889) (fun _ h9 => h9) rfl hin rfl (tyX8_ok 2 (by decide)) rfl rfl k4 lo4 dX8_init_16 (fun H locs hr hS => ?_)
  rw [← eh4] at hr
  replace hc := cst_put hc eh4
  have bz := bud_r hc hF hmc hms
  refine W.widen (k := mc) (n := ms) bz.1 bz.2 ?_
  exact W.vret hx hb hret (fun t ht hWm => ⟨⟨h4, rfl, Option.some.inj hF, h_end hGr hr hS ht hWm⟩, hS.F ht⟩) hS.2.2 dX8_init_19

def GX8_longer (h : Hp) (a0 : Nat) : Option (Nat × Hp) := nW h 7 [.int 0, .int 0, .int 0] 3 (fun a1_ h1 => gI h1 a0 7 0 (fun x2_ => gI h1 a0 7 1 (fun x3_ => gI h1 a0 7 2 (fun x4_ => bnd (GX8_init h1 a1_ x2_ (x3_ + 1) x4_) (fun r5 u5 => some (a1_, u5))))))
theorem moX8_longer (h : Hp) (a0 : Nat) : Mo h (GX8_longer h a0) := by
  unfold GX8_longer
  exact mo_nW hle_rf (fun a1_ h1 m1 => mo_gI (fun x2_ => mo_gI (fun x3_ => mo_gI (fun x4_ => mo_bnd (moX8_init h1 a1_ x2_ (x3_ + 1) x4_) m1 (fun r5 u5 m5 => mo_ret m5)))))
set_option maxHeartbeats 4000000 in
set_option maxRecDepth 100000 in
theorem mgX8_longer (l : Launch) (D : HD) (A : Nat → Prop) (h : Hp) (a0 : Nat) (out : Nat × Hp) (hF : GX8_longer h a0 = some out) (mc ms : Nat) (hmc : hCc out.2 = hCc h + mc) (hms : hSl out.2 = hSl h + ms) : Met l yX8_longer (ws_ yX8_longer cX8_longer 1 (some (.object "ExactChains$Chain"))) ({ frames := 3, cells := mc, slots := ms, locals := 63 }) (va_Pc [.ref a0] (hW D A h)) (va_Qr (fun _ : Hp => True) (fun u r t => (r, u) = out ∧ hW D A u t) A) mc ms A := by
  refine Met.ofW (cc := cX8_longer) (maxL := 1) (ret := (some (.object "ExactChains$Chain"))) (by decide +kernel) rfl ?_
  intro p e s m args below meth c s₁ B hml hv
  obtain ⟨rfl, hr, hGr⟩ := hv
  have hx := B.exec
  have hb := B.bytes
  have hret := B.returns
  have hts := atoms_spec (ws := (ws_ yX8_longer cX8_longer 1 (some (.object "ExactChains$Chain")))) B.pre
  have hts : ∀ w ∈ lw_all, w.before _ s = true := fun w h => hts w (List.mem_cons_of_mem _ h)
  have hown : s.vm.findClass RX8 = some m.cls := findClass_of_methodNamed B.named
  have hlocks := B.notSynchronized
  have hS : va_S A s.heap s.heap [] := va_S.rf
  have hc : cst h 0 0 h := cst_0
  have hl := lv_entry ([.ref a0]) (n := 1) (Nat.le_of_ble_eq_true rfl)
  rw [lg_entry_eq]
  generalize (lg_sl ([.ref a0]) ++ List.replicate (1 - (lg_sl ([.ref a0])).length) Slot.unset).toArray = ls at hl ⊢
  have hl : lv_has ls 1 [(0, .ref a0)] := hl
  unfold GX8_longer at hF
  obtain ⟨a1_, h1, ea1, eh1, hF⟩ := nW_s hF
  have mm1 : hle h1 out.2 := (show Mo h1 _ from mo_gI (fun x2_ => mo_gI (fun x3_ => mo_gI (fun x4_ => mo_bnd (moX8_init h1 a1_ x2_ (x3_ + 1) x4_) hle_rf (fun r5 u5 m5 => mo_ret m5))))) _ hF
  replace hc := cst_new hc eh1
  refine h_new (C := RX8) (T := TX8) (N := 3) hx hb hts in_X8 tyX8 tyX8_ok hown (hts _ q953) (hts _ q870) (hts _ q139) hGr hr hS (ci := 7) (by decide) rfl (fs := [.int 0, .int 0, .int 0]) (fun j hj => by match j, hj with | 0, _ => rfl | 1, _ => rfl | 2, _ => rfl | j + 3, hj => omega) (bud hc mm1 hmc hms).1 (bud hc mm1 hmc hms).2 dX8_longer_0 (fun H hr hS => ?_)
  rw [← eh1] at hr
  rw [← ea1]
  refine lv_dup hx hb dX8_longer_3 rfl ?_
  refine lv_aload_n hx hb dX8_longer_4 rfl (lv_at hl 0 rfl) ?_
  obtain ⟨fs2, x2_, e2, f2, hF⟩ := gI_s hF
  refine h_get (C := RX8) (T := TX8) (N := 3) hx hb hts in_X8 hown hGr hr e2 (by decide) rfl 0 (by decide) (hts _ q887) (fun _ h9 => h9) f2 dX8_longer_5 ?_
  refine lv_aload_n hx hb dX8_longer_8 rfl (lv_at hl 0 rfl) ?_
  obtain ⟨fs3, x3_, e3, f3, hF⟩ := gI_s hF
  refine h_get (C := RX8) (T := TX8) (N := 3) hx hb hts in_X8 hown hGr hr e3 (by decide) rfl 1 (by decide) (hts _ q888) (fun _ h9 => h9) f3 dX8_longer_9 ?_
  refine lv_iconst (v := 1) hx hb dX8_longer_12 (by decide) ?_
  refine lv_iadd hx hb dX8_longer_13 ?_
  refine lv_aload_n hx hb dX8_longer_14 rfl (lv_at hl 0 rfl) ?_
  obtain ⟨fs4, x4_, e4, f4, hF⟩ := gI_s hF
  refine h_get (C := RX8) (T := TX8) (N := 3) hx hb hts in_X8 hown hGr hr e4 (by decide) rfl 2 (by decide) (hts _ q889) (fun _ h9 => h9) f4 dX8_longer_15 ?_
  obtain ⟨r5, u5, e5, hF⟩ := bnd_s hF
  have mm5 : hle u5 out.2 := (show Mo u5 _ from mo_ret hle_rf) _ hF
  obtain ⟨mc5, ms5, hmc5, hms5⟩ := up_of (moX8_init h1 a1_ x2_ (x3_ + 1) x4_ _ e5)
  replace hc := cst_call hc hmc5 hms5
  refine h_callv (va_runI (As := [.int x2_, .int (x3_ + 1), .int x4_]) (rest := [.ref a1_]) ⟨hx, hb, hml, hown, hts⟩ (mgX8_init l D A h1 a1_ x2_ (x3_ + 1) x4_ _ e5 mc5 ms5 hmc5 hms5) (cwI 3 hts (lw_meth q882) rfl rfl rfl (hts _ q139) (hts _ q954) (hts _ q881) rfl (by decide +kernel) ⟨Nat.le_of_ble_eq_true rfl, Nat.le_of_ble_eq_true rfl⟩) (h_preS hGr hr hS _) rfl rfl hl.1 rfl (lv_room (Nat.le_of_ble_eq_true rfl)) dX8_longer_18 ⟨(bud hc mm5 hmc hms).1, (bud hc mm5 hmc hms).2⟩) hS (fun uu H locs hw hr hS => ?_)
  obtain rfl : u5 = uu := (congrArg Prod.snd hw).symm
  have bz := bud_r hc hF hmc hms
  refine W.widen (k := mc) (n := ms) bz.1 bz.2 ?_
  exact W.aret (v := .ref a1_) hx hb hret (Or.inl ⟨_, rfl⟩) (Or.inr ⟨_, rfl⟩) (fun t ht hWm => ⟨⟨u5, a1_, rfl, trivial, Option.some.inj hF, h_end hGr hr hS ht hWm⟩, hS.F ht⟩) hS.2.2 dX8_longer_21

def GX8_ended (h : Hp) (a0 : Nat) (p1 : Int32) : Option (Nat × Hp) := nW h 7 [.int 0, .int 0, .int 0] 3 (fun a1_ h1 => gI h1 a0 7 0 (fun x2_ => gI h1 a0 7 1 (fun x3_ => bnd (GX8_init h1 a1_ x2_ x3_ p1) (fun r4 u4 => some (a1_, u4)))))
theorem moX8_ended (h : Hp) (a0 : Nat) (p1 : Int32) : Mo h (GX8_ended h a0 p1) := by
  unfold GX8_ended
  exact mo_nW hle_rf (fun a1_ h1 m1 => mo_gI (fun x2_ => mo_gI (fun x3_ => mo_bnd (moX8_init h1 a1_ x2_ x3_ p1) m1 (fun r4 u4 m4 => mo_ret m4))))
set_option maxHeartbeats 4000000 in
set_option maxRecDepth 100000 in
theorem mgX8_ended (l : Launch) (D : HD) (A : Nat → Prop) (h : Hp) (a0 : Nat) (p1 : Int32) (out : Nat × Hp) (hF : GX8_ended h a0 p1 = some out) (mc ms : Nat) (hmc : hCc out.2 = hCc h + mc) (hms : hSl out.2 = hSl h + ms) : Met l yX8_ended (ws_ yX8_ended cX8_ended 2 (some (.object "ExactChains$Chain"))) ({ frames := 3, cells := mc, slots := ms, locals := 63 }) (va_Pc [.ref a0, .int p1] (hW D A h)) (va_Qr (fun _ : Hp => True) (fun u r t => (r, u) = out ∧ hW D A u t) A) mc ms A := by
  refine Met.ofW (cc := cX8_ended) (maxL := 2) (ret := (some (.object "ExactChains$Chain"))) (by decide +kernel) rfl ?_
  intro p e s m args below meth c s₁ B hml hv
  obtain ⟨rfl, hr, hGr⟩ := hv
  have hx := B.exec
  have hb := B.bytes
  have hret := B.returns
  have hts := atoms_spec (ws := (ws_ yX8_ended cX8_ended 2 (some (.object "ExactChains$Chain")))) B.pre
  have hts : ∀ w ∈ lw_all, w.before _ s = true := fun w h => hts w (List.mem_cons_of_mem _ h)
  have hown : s.vm.findClass RX8 = some m.cls := findClass_of_methodNamed B.named
  have hlocks := B.notSynchronized
  have hS : va_S A s.heap s.heap [] := va_S.rf
  have hc : cst h 0 0 h := cst_0
  have hl := lv_entry ([.ref a0, .int p1]) (n := 2) (Nat.le_of_ble_eq_true rfl)
  rw [lg_entry_eq]
  generalize (lg_sl ([.ref a0, .int p1]) ++ List.replicate (2 - (lg_sl ([.ref a0, .int p1])).length) Slot.unset).toArray = ls at hl ⊢
  have hl : lv_has ls 2 [(0, .ref a0), (1, .int p1)] := hl
  unfold GX8_ended at hF
  obtain ⟨a1_, h1, ea1, eh1, hF⟩ := nW_s hF
  have mm1 : hle h1 out.2 := (show Mo h1 _ from mo_gI (fun x2_ => mo_gI (fun x3_ => mo_bnd (moX8_init h1 a1_ x2_ x3_ p1) hle_rf (fun r4 u4 m4 => mo_ret m4)))) _ hF
  replace hc := cst_new hc eh1
  refine h_new (C := RX8) (T := TX8) (N := 3) hx hb hts in_X8 tyX8 tyX8_ok hown (hts _ q953) (hts _ q870) (hts _ q139) hGr hr hS (ci := 7) (by decide) rfl (fs := [.int 0, .int 0, .int 0]) (fun j hj => by match j, hj with | 0, _ => rfl | 1, _ => rfl | 2, _ => rfl | j + 3, hj => omega) (bud hc mm1 hmc hms).1 (bud hc mm1 hmc hms).2 dX8_ended_0 (fun H hr hS => ?_)
  rw [← eh1] at hr
  rw [← ea1]
  refine lv_dup hx hb dX8_ended_3 rfl ?_
  refine lv_aload_n hx hb dX8_ended_4 rfl (lv_at hl 0 rfl) ?_
  obtain ⟨fs2, x2_, e2, f2, hF⟩ := gI_s hF
  refine h_get (C := RX8) (T := TX8) (N := 3) hx hb hts in_X8 hown hGr hr e2 (by decide) rfl 0 (by decide) (hts _ q887) (fun _ h9 => h9) f2 dX8_ended_5 ?_
  refine lv_aload_n hx hb dX8_ended_8 rfl (lv_at hl 0 rfl) ?_
  obtain ⟨fs3, x3_, e3, f3, hF⟩ := gI_s hF
  refine h_get (C := RX8) (T := TX8) (N := 3) hx hb hts in_X8 hown hGr hr e3 (by decide) rfl 1 (by decide) (hts _ q888) (fun _ h9 => h9) f3 dX8_ended_9 ?_
  refine lv_iload_n hx hb dX8_ended_12 rfl (lv_at hl 1 rfl) ?_
  obtain ⟨r4, u4, e4, hF⟩ := bnd_s hF
  have mm4 : hle u4 out.2 := (show Mo u4 _ from mo_ret hle_rf) _ hF
  obtain ⟨mc4, ms4, hmc4, hms4⟩ := up_of (moX8_init h1 a1_ x2_ x3_ p1 _ e4)
  replace hc := cst_call hc hmc4 hms4
  refine h_callv (va_runI (As := [.int x2_, .int x3_, .int p1]) (rest := [.ref a1_]) ⟨hx, hb, hml, hown, hts⟩ (mgX8_init l D A h1 a1_ x2_ x3_ p1 _ e4 mc4 ms4 hmc4 hms4) (cwI 3 hts (lw_meth q882) rfl rfl rfl (hts _ q139) (hts _ q954) (hts _ q881) rfl (by decide +kernel) ⟨Nat.le_of_ble_eq_true rfl, Nat.le_of_ble_eq_true rfl⟩) (h_preS hGr hr hS _) rfl rfl hl.1 rfl (lv_room (Nat.le_of_ble_eq_true rfl)) dX8_ended_13 ⟨(bud hc mm4 hmc hms).1, (bud hc mm4 hmc hms).2⟩) hS (fun uu H locs hw hr hS => ?_)
  obtain rfl : u4 = uu := (congrArg Prod.snd hw).symm
  have bz := bud_r hc hF hmc hms
  refine W.widen (k := mc) (n := ms) bz.1 bz.2 ?_
  exact W.aret (v := .ref a1_) hx hb hret (Or.inl ⟨_, rfl⟩) (Or.inr ⟨_, rfl⟩) (fun t ht hWm => ⟨⟨u4, a1_, rfl, trivial, Option.some.inj hF, h_end hGr hr hS ht hWm⟩, hS.F ht⟩) hS.2.2 dX8_ended_16

def GX8_first (h : Hp) (a0 : Nat) : Option (Int32 × Hp) := gI h a0 7 0 (fun x1_ => some (x1_, h))
theorem moX8_first (h : Hp) (a0 : Nat) : Mo h (GX8_first h a0) := by
  unfold GX8_first
  exact mo_gI (fun x1_ => mo_ret hle_rf)
set_option maxHeartbeats 4000000 in
set_option maxRecDepth 100000 in
theorem mgX8_first (l : Launch) (D : HD) (A : Nat → Prop) (h : Hp) (a0 : Nat) (out : Int32 × Hp) (hF : GX8_first h a0 = some out) (mc ms : Nat) (hmc : hCc out.2 = hCc h + mc) (hms : hSl out.2 = hSl h + ms) : Met l yX8_first (ws_ yX8_first cX8_first 1 (some .int)) ({ frames := 0, cells := mc, slots := ms, locals := 0 }) (va_Pc [.ref a0] (hW D A h)) (va_Qi (fun r u => (r, u) = out) (hW D A) A) mc ms A := by
  refine Met.ofW (cc := cX8_first) (maxL := 1) (ret := (some .int)) (by decide +kernel) rfl ?_
  intro p e s m args below meth c s₁ B hml hv
  obtain ⟨rfl, hr, hGr⟩ := hv
  have hx := B.exec
  have hb := B.bytes
  have hret := B.returns
  have hts := atoms_spec (ws := (ws_ yX8_first cX8_first 1 (some .int))) B.pre
  have hts : ∀ w ∈ lw_all, w.before _ s = true := fun w h => hts w (List.mem_cons_of_mem _ h)
  have hown : s.vm.findClass RX8 = some m.cls := findClass_of_methodNamed B.named
  have hlocks := B.notSynchronized
  have hS : va_S A s.heap s.heap [] := va_S.rf
  have hc : cst h 0 0 h := cst_0
  have hl := lv_entry ([.ref a0]) (n := 1) (Nat.le_of_ble_eq_true rfl)
  rw [lg_entry_eq]
  generalize (lg_sl ([.ref a0]) ++ List.replicate (1 - (lg_sl ([.ref a0])).length) Slot.unset).toArray = ls at hl ⊢
  have hl : lv_has ls 1 [(0, .ref a0)] := hl
  unfold GX8_first at hF
  refine lv_aload_n hx hb dX8_first_0 rfl (lv_at hl 0 rfl) ?_
  obtain ⟨fs1, x1_, e1, f1, hF⟩ := gI_s hF
  refine h_get (C := RX8) (T := TX8) (N := 3) hx hb hts in_X8 hown hGr hr e1 (by decide) rfl 0 (by decide) (hts _ q887) (fun _ h9 => h9) f1 dX8_first_1 ?_
  have bz := bud_r hc hF hmc hms
  refine W.widen (k := mc) (n := ms) bz.1 bz.2 ?_
  exact W.iret (v := x1_) hx hb hret (fun t ht hWm => ⟨⟨x1_, h, rfl, Option.some.inj hF, h_end hGr hr hS ht hWm⟩, hS.F ht⟩) hS.2.2 dX8_first_4

def GX8_many (h : Hp) (a0 : Nat) : Option (Int32 × Hp) := gI h a0 7 1 (fun x1_ => some (x1_, h))
theorem moX8_many (h : Hp) (a0 : Nat) : Mo h (GX8_many h a0) := by
  unfold GX8_many
  exact mo_gI (fun x1_ => mo_ret hle_rf)
set_option maxHeartbeats 4000000 in
set_option maxRecDepth 100000 in
theorem mgX8_many (l : Launch) (D : HD) (A : Nat → Prop) (h : Hp) (a0 : Nat) (out : Int32 × Hp) (hF : GX8_many h a0 = some out) (mc ms : Nat) (hmc : hCc out.2 = hCc h + mc) (hms : hSl out.2 = hSl h + ms) : Met l yX8_many (ws_ yX8_many cX8_many 1 (some .int)) ({ frames := 0, cells := mc, slots := ms, locals := 0 }) (va_Pc [.ref a0] (hW D A h)) (va_Qi (fun r u => (r, u) = out) (hW D A) A) mc ms A := by
  refine Met.ofW (cc := cX8_many) (maxL := 1) (ret := (some .int)) (by decide +kernel) rfl ?_
  intro p e s m args below meth c s₁ B hml hv
  obtain ⟨rfl, hr, hGr⟩ := hv
  have hx := B.exec
  have hb := B.bytes
  have hret := B.returns
  have hts := atoms_spec (ws := (ws_ yX8_many cX8_many 1 (some .int))) B.pre
  have hts : ∀ w ∈ lw_all, w.before _ s = true := fun w h => hts w (List.mem_cons_of_mem _ h)
  have hown : s.vm.findClass RX8 = some m.cls := findClass_of_methodNamed B.named
  have hlocks := B.notSynchronized
  have hS : va_S A s.heap s.heap [] := va_S.rf
  have hc : cst h 0 0 h := cst_0
  have hl := lv_entry ([.ref a0]) (n := 1) (Nat.le_of_ble_eq_true rfl)
  rw [lg_entry_eq]
  generalize (lg_sl ([.ref a0]) ++ List.replicate (1 - (lg_sl ([.ref a0])).length) Slot.unset).toArray = ls at hl ⊢
  have hl : lv_has ls 1 [(0, .ref a0)] := hl
  unfold GX8_many at hF
  refine lv_aload_n hx hb dX8_many_0 rfl (lv_at hl 0 rfl) ?_
  obtain ⟨fs1, x1_, e1, f1, hF⟩ := gI_s hF
  refine h_get (C := RX8) (T := TX8) (N := 3) hx hb hts in_X8 hown hGr hr e1 (by decide) rfl 1 (by decide) (hts _ q888) (fun _ h9 => h9) f1 dX8_many_1 ?_
  have bz := bud_r hc hF hmc hms
  refine W.widen (k := mc) (n := ms) bz.1 bz.2 ?_
  exact W.iret (v := x1_) hx hb hret (fun t ht hWm => ⟨⟨x1_, h, rfl, Option.some.inj hF, h_end hGr hr hS ht hWm⟩, hS.F ht⟩) hS.2.2 dX8_many_4

def GX8_cause (h : Hp) (a0 : Nat) : Option (Int32 × Hp) := gI h a0 7 2 (fun x1_ => some (x1_, h))
theorem moX8_cause (h : Hp) (a0 : Nat) : Mo h (GX8_cause h a0) := by
  unfold GX8_cause
  exact mo_gI (fun x1_ => mo_ret hle_rf)
set_option maxHeartbeats 4000000 in
set_option maxRecDepth 100000 in
theorem mgX8_cause (l : Launch) (D : HD) (A : Nat → Prop) (h : Hp) (a0 : Nat) (out : Int32 × Hp) (hF : GX8_cause h a0 = some out) (mc ms : Nat) (hmc : hCc out.2 = hCc h + mc) (hms : hSl out.2 = hSl h + ms) : Met l yX8_cause (ws_ yX8_cause cX8_cause 1 (some .int)) ({ frames := 0, cells := mc, slots := ms, locals := 0 }) (va_Pc [.ref a0] (hW D A h)) (va_Qi (fun r u => (r, u) = out) (hW D A) A) mc ms A := by
  refine Met.ofW (cc := cX8_cause) (maxL := 1) (ret := (some .int)) (by decide +kernel) rfl ?_
  intro p e s m args below meth c s₁ B hml hv
  obtain ⟨rfl, hr, hGr⟩ := hv
  have hx := B.exec
  have hb := B.bytes
  have hret := B.returns
  have hts := atoms_spec (ws := (ws_ yX8_cause cX8_cause 1 (some .int))) B.pre
  have hts : ∀ w ∈ lw_all, w.before _ s = true := fun w h => hts w (List.mem_cons_of_mem _ h)
  have hown : s.vm.findClass RX8 = some m.cls := findClass_of_methodNamed B.named
  have hlocks := B.notSynchronized
  have hS : va_S A s.heap s.heap [] := va_S.rf
  have hc : cst h 0 0 h := cst_0
  have hl := lv_entry ([.ref a0]) (n := 1) (Nat.le_of_ble_eq_true rfl)
  rw [lg_entry_eq]
  generalize (lg_sl ([.ref a0]) ++ List.replicate (1 - (lg_sl ([.ref a0])).length) Slot.unset).toArray = ls at hl ⊢
  have hl : lv_has ls 1 [(0, .ref a0)] := hl
  unfold GX8_cause at hF
  refine lv_aload_n hx hb dX8_cause_0 rfl (lv_at hl 0 rfl) ?_
  obtain ⟨fs1, x1_, e1, f1, hF⟩ := gI_s hF
  refine h_get (C := RX8) (T := TX8) (N := 3) hx hb hts in_X8 hown hGr hr e1 (by decide) rfl 2 (by decide) (hts _ q889) (fun _ h9 => h9) f1 dX8_cause_1 ?_
  have bz := bud_r hc hF hmc hms
  refine W.widen (k := mc) (n := ms) bz.1 bz.2 ?_
  exact W.iret (v := x1_) hx hb hret (fun t ht hWm => ⟨⟨x1_, h, rfl, Option.some.inj hF, h_end hGr hr hS ht hWm⟩, hS.F ht⟩) hS.2.2 dX8_cause_4

def GX9_init (h : Hp) (a0 : Nat) (a1 : Nat) (p2 : Int32) (p3 : Int32) : Option (Int32 × Hp) := bnd (GJ28_init h a0) (fun r1 u1 => pV u1 a0 8 0 (.ref a1) (fun h2 => pV h2 a0 8 1 (.int p2) (fun h3 => pV h3 a0 8 2 (.int p3) (fun h4 => some (0, h4)))))
theorem moX9_init (h : Hp) (a0 : Nat) (a1 : Nat) (p2 : Int32) (p3 : Int32) : Mo h (GX9_init h a0 a1 p2 p3) := by
  unfold GX9_init
  exact mo_bnd (moJ28_init h a0) hle_rf (fun r1 u1 m1 => mo_pV m1 (fun h2 m2 => mo_pV m2 (fun h3 m3 => mo_pV m3 (fun h4 m4 => mo_ret m4))))
set_option maxHeartbeats 4000000 in
set_option maxRecDepth 100000 in
theorem mgX9_init (l : Launch) (D : HD) (A : Nat → Prop) (h : Hp) (a0 : Nat) (a1 : Nat) (p2 : Int32) (p3 : Int32) (out : Int32 × Hp) (hF : GX9_init h a0 a1 p2 p3 = some out) (mc ms : Nat) (hmc : hCc out.2 = hCc h + mc) (hms : hSl out.2 = hSl h + ms) : Met l yX9_init (ws_ yX9_init cX9_init 4 none) ({ frames := 2, cells := mc, slots := ms, locals := 40 }) (va_Pc [.ref a0, .ref a1, .int p2, .int p3] (hW D A h)) (va_Qv (fun u => (0, u) = out) (hW D A) A) mc ms A := by
  refine Met.ofW (cc := cX9_init) (maxL := 4) (ret := none) (by decide +kernel) rfl ?_
  intro p e s m args below meth c s₁ B hml hv
  obtain ⟨rfl, hr, hGr⟩ := hv
  have hx := B.exec
  have hb := B.bytes
  have hret := B.returns
  have hts := atoms_spec (ws := (ws_ yX9_init cX9_init 4 none)) B.pre
  have hts : ∀ w ∈ lw_all, w.before _ s = true := fun w h => hts w (List.mem_cons_of_mem _ h)
  have hown : s.vm.findClass RX9 = some m.cls := findClass_of_methodNamed B.named
  have hlocks := B.notSynchronized
  have hin : meth.name = "<init>" := (name_of_methodNamed B.named B.method).1
  have hS : va_S A s.heap s.heap [] := va_S.rf
  have hc : cst h 0 0 h := cst_0
  have hl := lv_entry ([.ref a0, .ref a1, .int p2, .int p3]) (n := 4) (Nat.le_of_ble_eq_true rfl)
  rw [lg_entry_eq]
  generalize (lg_sl ([.ref a0, .ref a1, .int p2, .int p3]) ++ List.replicate (4 - (lg_sl ([.ref a0, .ref a1, .int p2, .int p3])).length) Slot.unset).toArray = ls at hl ⊢
  have hl : lv_has ls 4 [(0, .ref a0), (1, .ref a1), (2, .int p2), (3, .int p3)] := hl
  unfold GX9_init at hF
  refine lv_aload_n hx hb dX9_init_0 rfl (lv_at hl 0 rfl) ?_
  obtain ⟨r1, u1, e1, hF⟩ := bnd_s hF
  have mm1 : hle u1 out.2 := (show Mo u1 _ from mo_pV hle_rf (fun h2 m2 => mo_pV m2 (fun h3 m3 => mo_pV m3 (fun h4 m4 => mo_ret m4)))) _ hF
  obtain ⟨mc1, ms1, hmc1, hms1⟩ := up_of (moJ28_init h a0 _ e1)
  replace hc := cst_call hc hmc1 hms1
  refine h_callv (va_runI (As := []) (rest := []) ⟨hx, hb, hml, hown, hts⟩ (mgJ28_init l D A h a0 _ e1 mc1 ms1 hmc1 hms1) (cwI 0 hts (lw_meth q885) rfl rfl rfl (hts _ q138) (hts _ q981) (hts _ q884) rfl (by decide +kernel) ⟨Nat.le_of_ble_eq_true rfl, Nat.le_of_ble_eq_true rfl⟩) (h_preS hGr hr hS _) rfl rfl hl.1 rfl (lv_room (Nat.le_of_ble_eq_true rfl)) dX9_init_1 ⟨(bud hc mm1 hmc hms).1, (bud hc mm1 hmc hms).2⟩) hS (fun uu H locs hw hr hS => ?_)
  obtain rfl : u1 = uu := (congrArg Prod.snd hw).symm
  refine lv_aload_n hx hb dX9_init_4 rfl (lv_at hl 0 rfl) ?_
  refine lv_aload_n hx hb dX9_init_5 rfl (lv_at hl 1 rfl) ?_
  obtain ⟨fs2, e2, k2, lo2, hF⟩ := pV_s hF
  obtain ⟨h2, eh2⟩ : ∃ z, z = hPut u1 a0 (.inr (8, fs2.set 0 (.ref a1))) := ⟨_, rfl⟩
  rw [← eh2] at hF
  refine h_putF (C := RX9) (T := TX9) (N := 3) hx hb hts in_X9 tyX9 tyX9_ok nmX9 hown hGr hr hS e2 (by decide) rfl 0 (by decide) (hts _ q982) (fun _ h9 => h9) rfl hin rfl (tyX9_ok 0 (by decide)) rfl rfl k2 lo2 dX9_init_6 (fun H locs hr hS => ?_)
  rw [← eh2] at hr
  replace hc := cst_put hc eh2
  refine lv_aload_n hx hb dX9_init_9 rfl (lv_at hl 0 rfl) ?_
  refine lv_iload_n hx hb dX9_init_10 rfl (lv_at hl 2 rfl) ?_
  obtain ⟨fs3, e3, k3, lo3, hF⟩ := pV_s hF
  obtain ⟨h3, eh3⟩ : ∃ z, z = hPut h2 a0 (.inr (8, fs3.set 1 (.int p2))) := ⟨_, rfl⟩
  rw [← eh3] at hF
  refine h_putF (C := RX9) (T := TX9) (N := 3) hx hb hts in_X9 tyX9 tyX9_ok nmX9 hown hGr hr hS e3 (by decide) rfl 1 (by decide) (hts _ q983) (fun _ h9 => h9) rfl hin rfl (tyX9_ok 1 (by decide)) rfl rfl k3 lo3 dX9_init_11 (fun H locs hr hS => ?_)
  rw [← eh3] at hr
  replace hc := cst_put hc eh3
  refine lv_aload_n hx hb dX9_init_14 rfl (lv_at hl 0 rfl) ?_
  refine lv_iload_n hx hb dX9_init_15 rfl (lv_at hl 3 rfl) ?_
  obtain ⟨fs4, e4, k4, lo4, hF⟩ := pV_s hF
  obtain ⟨h4, eh4⟩ : ∃ z, z = hPut h3 a0 (.inr (8, fs4.set 2 (.int p3))) := ⟨_, rfl⟩
  rw [← eh4] at hF
  refine h_putF (C := RX9) (T := TX9) (N := 3) hx hb hts in_X9 tyX9 tyX9_ok nmX9 hown hGr hr hS e4 (by decide) rfl 2 (by decide) (hts _ q984) (fun _ h9 => h9) rfl hin rfl (tyX9_ok 2 (by decide)) rfl rfl k4 lo4 dX9_init_16 (fun H locs hr hS => ?_)
  rw [← eh4] at hr
  replace hc := cst_put hc eh4
  have bz := bud_r hc hF hmc hms
  refine W.widen (k := mc) (n := ms) bz.1 bz.2 ?_
  exact W.vret hx hb hret (fun t ht hWm => ⟨⟨h4, rfl, Option.some.inj hF, h_end hGr hr hS ht hWm⟩, hS.F ht⟩) hS.2.2 dX9_init_19

def GX9_vector (h : Hp) (a0 : Nat) : Option (Nat × Hp) := gQ h a0 8 0 (fun x1_ => some (x1_, h))
theorem moX9_vector (h : Hp) (a0 : Nat) : Mo h (GX9_vector h a0) := by
  unfold GX9_vector
  exact mo_gQ (fun x1_ => mo_ret hle_rf)
set_option maxHeartbeats 4000000 in
set_option maxRecDepth 100000 in
theorem mgX9_vector (l : Launch) (D : HD) (A : Nat → Prop) (h : Hp) (a0 : Nat) (out : Nat × Hp) (hF : GX9_vector h a0 = some out) (mc ms : Nat) (hmc : hCc out.2 = hCc h + mc) (hms : hSl out.2 = hSl h + ms) : Met l yX9_vector (ws_ yX9_vector cX9_vector 1 (some (.object "ExactChains$Vector"))) ({ frames := 0, cells := mc, slots := ms, locals := 0 }) (va_Pc [.ref a0] (hW D A h)) (va_Qr (fun _ : Hp => True) (fun u r t => (r, u) = out ∧ hW D A u t) A) mc ms A := by
  refine Met.ofW (cc := cX9_vector) (maxL := 1) (ret := (some (.object "ExactChains$Vector"))) (by decide +kernel) rfl ?_
  intro p e s m args below meth c s₁ B hml hv
  obtain ⟨rfl, hr, hGr⟩ := hv
  have hx := B.exec
  have hb := B.bytes
  have hret := B.returns
  have hts := atoms_spec (ws := (ws_ yX9_vector cX9_vector 1 (some (.object "ExactChains$Vector")))) B.pre
  have hts : ∀ w ∈ lw_all, w.before _ s = true := fun w h => hts w (List.mem_cons_of_mem _ h)
  have hown : s.vm.findClass RX9 = some m.cls := findClass_of_methodNamed B.named
  have hlocks := B.notSynchronized
  have hS : va_S A s.heap s.heap [] := va_S.rf
  have hc : cst h 0 0 h := cst_0
  have hl := lv_entry ([.ref a0]) (n := 1) (Nat.le_of_ble_eq_true rfl)
  rw [lg_entry_eq]
  generalize (lg_sl ([.ref a0]) ++ List.replicate (1 - (lg_sl ([.ref a0])).length) Slot.unset).toArray = ls at hl ⊢
  have hl : lv_has ls 1 [(0, .ref a0)] := hl
  unfold GX9_vector at hF
  refine lv_aload_n hx hb dX9_vector_0 rfl (lv_at hl 0 rfl) ?_
  obtain ⟨fs1, x1_, e1, f1, hF⟩ := gQ_s hF
  refine h_get (C := RX9) (T := TX9) (N := 3) hx hb hts in_X9 hown hGr hr e1 (by decide) rfl 0 (by decide) (hts _ q982) (fun _ h9 => h9) f1 dX9_vector_1 ?_
  have bz := bud_r hc hF hmc hms
  refine W.widen (k := mc) (n := ms) bz.1 bz.2 ?_
  exact W.aret (v := .ref x1_) hx hb hret (Or.inl ⟨_, rfl⟩) (Or.inr ⟨_, rfl⟩) (fun t ht hWm => ⟨⟨h, x1_, rfl, trivial, Option.some.inj hF, h_end hGr hr hS ht hWm⟩, hS.F ht⟩) hS.2.2 dX9_vector_4

def GX9_norm (h : Hp) (a0 : Nat) : Option (Int32 × Hp) := gI h a0 8 1 (fun x1_ => some (x1_, h))
theorem moX9_norm (h : Hp) (a0 : Nat) : Mo h (GX9_norm h a0) := by
  unfold GX9_norm
  exact mo_gI (fun x1_ => mo_ret hle_rf)
set_option maxHeartbeats 4000000 in
set_option maxRecDepth 100000 in
theorem mgX9_norm (l : Launch) (D : HD) (A : Nat → Prop) (h : Hp) (a0 : Nat) (out : Int32 × Hp) (hF : GX9_norm h a0 = some out) (mc ms : Nat) (hmc : hCc out.2 = hCc h + mc) (hms : hSl out.2 = hSl h + ms) : Met l yX9_norm (ws_ yX9_norm cX9_norm 1 (some .int)) ({ frames := 0, cells := mc, slots := ms, locals := 0 }) (va_Pc [.ref a0] (hW D A h)) (va_Qi (fun r u => (r, u) = out) (hW D A) A) mc ms A := by
  refine Met.ofW (cc := cX9_norm) (maxL := 1) (ret := (some .int)) (by decide +kernel) rfl ?_
  intro p e s m args below meth c s₁ B hml hv
  obtain ⟨rfl, hr, hGr⟩ := hv
  have hx := B.exec
  have hb := B.bytes
  have hret := B.returns
  have hts := atoms_spec (ws := (ws_ yX9_norm cX9_norm 1 (some .int))) B.pre
  have hts : ∀ w ∈ lw_all, w.before _ s = true := fun w h => hts w (List.mem_cons_of_mem _ h)
  have hown : s.vm.findClass RX9 = some m.cls := findClass_of_methodNamed B.named
  have hlocks := B.notSynchronized
  have hS : va_S A s.heap s.heap [] := va_S.rf
  have hc : cst h 0 0 h := cst_0
  have hl := lv_entry ([.ref a0]) (n := 1) (Nat.le_of_ble_eq_true rfl)
  rw [lg_entry_eq]
  generalize (lg_sl ([.ref a0]) ++ List.replicate (1 - (lg_sl ([.ref a0])).length) Slot.unset).toArray = ls at hl ⊢
  have hl : lv_has ls 1 [(0, .ref a0)] := hl
  unfold GX9_norm at hF
  refine lv_aload_n hx hb dX9_norm_0 rfl (lv_at hl 0 rfl) ?_
  obtain ⟨fs1, x1_, e1, f1, hF⟩ := gI_s hF
  refine h_get (C := RX9) (T := TX9) (N := 3) hx hb hts in_X9 hown hGr hr e1 (by decide) rfl 1 (by decide) (hts _ q983) (fun _ h9 => h9) f1 dX9_norm_1 ?_
  have bz := bud_r hc hF hmc hms
  refine W.widen (k := mc) (n := ms) bz.1 bz.2 ?_
  exact W.iret (v := x1_) hx hb hret (fun t ht hWm => ⟨⟨x1_, h, rfl, Option.some.inj hF, h_end hGr hr hS ht hWm⟩, hS.F ht⟩) hS.2.2 dX9_norm_4

def GX9_chain (h : Hp) (a0 : Nat) : Option (Int32 × Hp) := gI h a0 8 2 (fun x1_ => some (x1_, h))
theorem moX9_chain (h : Hp) (a0 : Nat) : Mo h (GX9_chain h a0) := by
  unfold GX9_chain
  exact mo_gI (fun x1_ => mo_ret hle_rf)
set_option maxHeartbeats 4000000 in
set_option maxRecDepth 100000 in
theorem mgX9_chain (l : Launch) (D : HD) (A : Nat → Prop) (h : Hp) (a0 : Nat) (out : Int32 × Hp) (hF : GX9_chain h a0 = some out) (mc ms : Nat) (hmc : hCc out.2 = hCc h + mc) (hms : hSl out.2 = hSl h + ms) : Met l yX9_chain (ws_ yX9_chain cX9_chain 1 (some .int)) ({ frames := 0, cells := mc, slots := ms, locals := 0 }) (va_Pc [.ref a0] (hW D A h)) (va_Qi (fun r u => (r, u) = out) (hW D A) A) mc ms A := by
  refine Met.ofW (cc := cX9_chain) (maxL := 1) (ret := (some .int)) (by decide +kernel) rfl ?_
  intro p e s m args below meth c s₁ B hml hv
  obtain ⟨rfl, hr, hGr⟩ := hv
  have hx := B.exec
  have hb := B.bytes
  have hret := B.returns
  have hts := atoms_spec (ws := (ws_ yX9_chain cX9_chain 1 (some .int))) B.pre
  have hts : ∀ w ∈ lw_all, w.before _ s = true := fun w h => hts w (List.mem_cons_of_mem _ h)
  have hown : s.vm.findClass RX9 = some m.cls := findClass_of_methodNamed B.named
  have hlocks := B.notSynchronized
  have hS : va_S A s.heap s.heap [] := va_S.rf
  have hc : cst h 0 0 h := cst_0
  have hl := lv_entry ([.ref a0]) (n := 1) (Nat.le_of_ble_eq_true rfl)
  rw [lg_entry_eq]
  generalize (lg_sl ([.ref a0]) ++ List.replicate (1 - (lg_sl ([.ref a0])).length) Slot.unset).toArray = ls at hl ⊢
  have hl : lv_has ls 1 [(0, .ref a0)] := hl
  unfold GX9_chain at hF
  refine lv_aload_n hx hb dX9_chain_0 rfl (lv_at hl 0 rfl) ?_
  obtain ⟨fs1, x1_, e1, f1, hF⟩ := gI_s hF
  refine h_get (C := RX9) (T := TX9) (N := 3) hx hb hts in_X9 hown hGr hr e1 (by decide) rfl 2 (by decide) (hts _ q984) (fun _ h9 => h9) f1 dX9_chain_1 ?_
  have bz := bud_r hc hF hmc hms
  refine W.widen (k := mc) (n := ms) bz.1 bz.2 ?_
  exact W.iret (v := x1_) hx hb hret (fun t ht hWm => ⟨⟨x1_, h, rfl, Option.some.inj hF, h_end hGr hr hS ht hWm⟩, hS.F ht⟩) hS.2.2 dX9_chain_4

def GJ0_init (h : Hp) (a0 : Nat) : Option (Int32 × Hp) := some (0, h)
theorem moJ0_init (h : Hp) (a0 : Nat) : Mo h (GJ0_init h a0) := by
  unfold GJ0_init
  exact mo_ret hle_rf
set_option maxHeartbeats 4000000 in
set_option maxRecDepth 100000 in
theorem mgJ0_init (l : Launch) (D : HD) (A : Nat → Prop) (h : Hp) (a0 : Nat) (out : Int32 × Hp) (hF : GJ0_init h a0 = some out) (mc ms : Nat) (hmc : hCc out.2 = hCc h + mc) (hms : hSl out.2 = hSl h + ms) : Met l yJ0_init (ws_ yJ0_init cJ0_init 1 none) ({ frames := 1, cells := mc, slots := ms, locals := 20 }) (va_Pc [.ref a0] (hW D A h)) (va_Qv (fun u => (0, u) = out) (hW D A) A) mc ms A := by
  refine va_MetF (cc := cJ0_init) (maxL := 1) (ret := none) (by decide +kernel) rfl ?_
  intro p e s m args below meth c s₁ B hml hv
  obtain ⟨rfl, hr, hGr⟩ := hv
  have hx := B.exec
  have hb := B.bytes
  have hret := B.returns
  have hts := atoms_spec (ws := (ws_ yJ0_init cJ0_init 1 none)) B.pre
  have hts : ∀ w ∈ lw_all, w.before _ s = true := fun w h => hts w (List.mem_cons_of_mem _ h)
  have hown : s.vm.findClass RJ0 = some m.cls := findClass_of_methodNamed B.named
  have hlocks := B.notSynchronized
  have hin : meth.name = "<init>" := (name_of_methodNamed B.named B.method).1
  have hS : va_S A s.heap s.heap [] := va_S.rf
  have hc : cst h 0 0 h := cst_0
  have hl := lv_entry ([.ref a0]) (n := 1) (Nat.le_of_ble_eq_true rfl)
  rw [lg_entry_eq]
  generalize (lg_sl ([.ref a0]) ++ List.replicate (1 - (lg_sl ([.ref a0])).length) Slot.unset).toArray = ls at hl ⊢
  have hl : lv_has ls 1 [(0, .ref a0)] := hl
  unfold GJ0_init at hF
  refine lv_aload_n hx hb dJ0_init_0 rfl (lv_at hl 0 rfl) ?_
  refine W.objInit hx hb hown (hts _ q193) (hts _ q149) (hts _ q150) rfl (by rw [hml]; exact hl.1) rfl dJ0_init_1 (Nat.le_of_ble_eq_true rfl) (Nat.le_of_ble_eq_true rfl) ?_
  refine W.eq (g2 := F0 m 4 ls []) rfl ?_
  have bz := bud_r hc hF hmc hms
  refine W.widen (k := mc) (n := ms) bz.1 bz.2 ?_
  exact W.vret hx hb hret (fun t ht hWm => ⟨⟨h, rfl, Option.some.inj hF, h_end hGr hr hS ht hWm⟩, hS.F ht⟩) hS.2.2 dJ0_init_4

def GJ1_init (h : Hp) (a0 : Nat) : Option (Int32 × Hp) := bnd (GJ0_init h a0) (fun r1 u1 => pV u1 a0 10 0 (.int 0) (fun h2 => some (0, h2)))
theorem moJ1_init (h : Hp) (a0 : Nat) : Mo h (GJ1_init h a0) := by
  unfold GJ1_init
  exact mo_bnd (moJ0_init h a0) hle_rf (fun r1 u1 m1 => mo_pV m1 (fun h2 m2 => mo_ret m2))
set_option maxHeartbeats 4000000 in
set_option maxRecDepth 100000 in
theorem mgJ1_init (l : Launch) (D : HD) (A : Nat → Prop) (h : Hp) (a0 : Nat) (out : Int32 × Hp) (hF : GJ1_init h a0 = some out) (mc ms : Nat) (hmc : hCc out.2 = hCc h + mc) (hms : hSl out.2 = hSl h + ms) : Met l yJ1_init (ws_ yJ1_init cJ1_init 1 none) ({ frames := 2, cells := mc, slots := ms, locals := 40 }) (va_Pc [.ref a0] (hW D A h)) (va_Qv (fun u => (0, u) = out) (hW D A) A) mc ms A := by
  refine va_MetF (cc := cJ1_init) (maxL := 1) (ret := none) (by decide +kernel) rfl ?_
  intro p e s m args below meth c s₁ B hml hv
  obtain ⟨rfl, hr, hGr⟩ := hv
  have hx := B.exec
  have hb := B.bytes
  have hret := B.returns
  have hts := atoms_spec (ws := (ws_ yJ1_init cJ1_init 1 none)) B.pre
  have hts : ∀ w ∈ lw_all, w.before _ s = true := fun w h => hts w (List.mem_cons_of_mem _ h)
  have hown : s.vm.findClass RJ1 = some m.cls := findClass_of_methodNamed B.named
  have hlocks := B.notSynchronized
  have hin : meth.name = "<init>" := (name_of_methodNamed B.named B.method).1
  have hS : va_S A s.heap s.heap [] := va_S.rf
  have hc : cst h 0 0 h := cst_0
  have hl := lv_entry ([.ref a0]) (n := 1) (Nat.le_of_ble_eq_true rfl)
  rw [lg_entry_eq]
  generalize (lg_sl ([.ref a0]) ++ List.replicate (1 - (lg_sl ([.ref a0])).length) Slot.unset).toArray = ls at hl ⊢
  have hl : lv_has ls 1 [(0, .ref a0)] := hl
  unfold GJ1_init at hF
  refine lv_aload_n hx hb dJ1_init_0 rfl (lv_at hl 0 rfl) ?_
  obtain ⟨r1, u1, e1, hF⟩ := bnd_s hF
  have mm1 : hle u1 out.2 := (show Mo u1 _ from mo_pV hle_rf (fun h2 m2 => mo_ret m2)) _ hF
  obtain ⟨mc1, ms1, hmc1, hms1⟩ := up_of (moJ0_init h a0 _ e1)
  replace hc := cst_call hc hmc1 hms1
  refine h_callv (va_runI (As := []) (rest := []) ⟨hx, hb, hml, hown, hts⟩ (mgJ0_init l D A h a0 _ e1 mc1 ms1 hmc1 hms1) (cwI 0 hts (lw_meth q192) rfl rfl rfl (hts _ q104) (hts _ q190) (hts _ q191) rfl (by decide +kernel) ⟨Nat.le_of_ble_eq_true rfl, Nat.le_of_ble_eq_true rfl⟩) (h_preS hGr hr hS _) rfl rfl hl.1 rfl (lv_room (Nat.le_of_ble_eq_true rfl)) dJ1_init_1 ⟨(bud hc mm1 hmc hms).1, (bud hc mm1 hmc hms).2⟩) hS (fun uu H locs hw hr hS => ?_)
  obtain rfl : u1 = uu := (congrArg Prod.snd hw).symm
  refine lv_aload_n hx hb dJ1_init_4 rfl (lv_at hl 0 rfl) ?_
  refine lv_iconst (v := 0) hx hb dJ1_init_5 (by decide) ?_
  obtain ⟨fs2, e2, k2, lo2, hF⟩ := pV_s hF
  obtain ⟨h2, eh2⟩ : ∃ z, z = hPut u1 a0 (.inr (10, fs2.set 0 (.int 0))) := ⟨_, rfl⟩
  rw [← eh2] at hF
  refine h_put (C := RJ2) (T := TJ2) (N := 3) hx hb hts in_J2 tyJ2 tyJ2_ok nmJ2 hown hGr hr hS e2 (by decide) rfl 0 (by decide) (hts _ q537) (fun _ h9 => h9) rfl (tyJ2_ok 0 (by decide)) rfl rfl k2 lo2 dJ1_init_6 (fun H locs hr hS => ?_)
  rw [← eh2] at hr
  replace hc := cst_put hc eh2
  have bz := bud_r hc hF hmc hms
  refine W.widen (k := mc) (n := ms) bz.1 bz.2 ?_
  exact W.vret hx hb hret (fun t ht hWm => ⟨⟨h2, rfl, Option.some.inj hF, h_end hGr hr hS ht hWm⟩, hS.F ht⟩) hS.2.2 dJ1_init_9

def GJ14_checkIndex (h : Hp) (p0 : Int32) (p1 : Int32) : Option (Int32 × Hp) := if p0 < 0 then none else if p0 < p1 then some (p0, h) else none
theorem moJ14_checkIndex (h : Hp) (p0 : Int32) (p1 : Int32) : Mo h (GJ14_checkIndex h p0 p1) := by
  unfold GJ14_checkIndex
  exact mo_ite (mo_no) (mo_ite (mo_ret hle_rf) (mo_no))
set_option maxHeartbeats 4000000 in
set_option maxRecDepth 100000 in
theorem mgJ14_checkIndex (l : Launch) (D : HD) (A : Nat → Prop) (h : Hp) (p0 : Int32) (p1 : Int32) (out : Int32 × Hp) (hF : GJ14_checkIndex h p0 p1 = some out) (mc ms : Nat) (hmc : hCc out.2 = hCc h + mc) (hms : hSl out.2 = hSl h + ms) : Met l yJ14_checkIndex (ws_ yJ14_checkIndex cJ14_checkIndex 3 (some .int)) ({ frames := 0, cells := mc, slots := ms, locals := 0 }) (va_Pc [.int p0, .int p1, .null] (hW D A h)) (va_Qi (fun r u => (r, u) = out) (hW D A) A) mc ms A := by
  refine va_MetF (cc := cJ14_checkIndex) (maxL := 3) (ret := (some .int)) (by decide +kernel) rfl ?_
  intro p e s m args below meth c s₁ B hml hv
  obtain ⟨rfl, hr, hGr⟩ := hv
  have hx := B.exec
  have hb := B.bytes
  have hret := B.returns
  have hts := atoms_spec (ws := (ws_ yJ14_checkIndex cJ14_checkIndex 3 (some .int))) B.pre
  have hts : ∀ w ∈ lw_all, w.before _ s = true := fun w h => hts w (List.mem_cons_of_mem _ h)
  have hown : s.vm.findClass RJ14 = some m.cls := findClass_of_methodNamed B.named
  have hlocks := B.notSynchronized
  have hS : va_S A s.heap s.heap [] := va_S.rf
  have hc : cst h 0 0 h := cst_0
  have hl := lv_entry ([.int p0, .int p1, .null]) (n := 3) (Nat.le_of_ble_eq_true rfl)
  rw [lg_entry_eq]
  generalize (lg_sl ([.int p0, .int p1, .null]) ++ List.replicate (3 - (lg_sl ([.int p0, .int p1, .null])).length) Slot.unset).toArray = ls at hl ⊢
  have hl : lv_has ls 3 [(0, .int p0), (1, .int p1), (2, .null)] := hl
  unfold GJ14_checkIndex at hF
  refine lv_iload_n hx hb dJ14_checkIndex_0 rfl (lv_at hl 0 rfl) ?_
  refine lv_if_lt (tgt := 9) hx hb dJ14_checkIndex_1 (by decide) (fun c1 => ?_) (fun c1 => ?_)
  · replace hF := it_t c1 hF
    exact nomatch hF
  · replace hF := it_f c1 hF
    refine lv_iload_n hx hb dJ14_checkIndex_4 rfl (lv_at hl 0 rfl) ?_
    refine lv_iload_n hx hb dJ14_checkIndex_5 rfl (lv_at hl 1 rfl) ?_
    refine lv_icmp_lt (tgt := 16) hx hb dJ14_checkIndex_6 (by decide) (fun c2 => ?_) (fun c2 => ?_)
    · replace hF := it_t c2 hF
      refine lv_iload_n hx hb dJ14_checkIndex_16 rfl (lv_at hl 0 rfl) ?_
      have bz := bud_r hc hF hmc hms
      refine W.widen (k := mc) (n := ms) bz.1 bz.2 ?_
      exact W.iret (v := p0) hx hb hret (fun t ht hWm => ⟨⟨p0, h, rfl, Option.some.inj hF, h_end hGr hr hS ht hWm⟩, hS.F ht⟩) hS.2.2 dJ14_checkIndex_17
    · replace hF := it_f c2 hF
      exact nomatch hF

def GJ27_checkIndex (h : Hp) (p0 : Int32) (p1 : Int32) : Option (Int32 × Hp) := bnd (GJ14_checkIndex h p0 p1) (fun r1 u1 => some (r1, u1))
theorem moJ27_checkIndex (h : Hp) (p0 : Int32) (p1 : Int32) : Mo h (GJ27_checkIndex h p0 p1) := by
  unfold GJ27_checkIndex
  exact mo_bnd (moJ14_checkIndex h p0 p1) hle_rf (fun r1 u1 m1 => mo_ret m1)
set_option maxHeartbeats 4000000 in
set_option maxRecDepth 100000 in
theorem mgJ27_checkIndex (l : Launch) (D : HD) (A : Nat → Prop) (h : Hp) (p0 : Int32) (p1 : Int32) (out : Int32 × Hp) (hF : GJ27_checkIndex h p0 p1 = some out) (mc ms : Nat) (hmc : hCc out.2 = hCc h + mc) (hms : hSl out.2 = hSl h + ms) : Met l yJ27_checkIndex (ws_ yJ27_checkIndex cJ27_checkIndex 2 (some .int)) ({ frames := 1, cells := mc, slots := ms, locals := 22 }) (va_Pc [.int p0, .int p1] (hW D A h)) (va_Qi (fun r u => (r, u) = out) (hW D A) A) mc ms A := by
  refine va_MetF (cc := cJ27_checkIndex) (maxL := 2) (ret := (some .int)) (by decide +kernel) rfl ?_
  intro p e s m args below meth c s₁ B hml hv
  obtain ⟨rfl, hr, hGr⟩ := hv
  have hx := B.exec
  have hb := B.bytes
  have hret := B.returns
  have hts := atoms_spec (ws := (ws_ yJ27_checkIndex cJ27_checkIndex 2 (some .int))) B.pre
  have hts : ∀ w ∈ lw_all, w.before _ s = true := fun w h => hts w (List.mem_cons_of_mem _ h)
  have hown : s.vm.findClass RJ27 = some m.cls := findClass_of_methodNamed B.named
  have hlocks := B.notSynchronized
  have hS : va_S A s.heap s.heap [] := va_S.rf
  have hc : cst h 0 0 h := cst_0
  have hl := lv_entry ([.int p0, .int p1]) (n := 2) (Nat.le_of_ble_eq_true rfl)
  rw [lg_entry_eq]
  generalize (lg_sl ([.int p0, .int p1]) ++ List.replicate (2 - (lg_sl ([.int p0, .int p1])).length) Slot.unset).toArray = ls at hl ⊢
  have hl : lv_has ls 2 [(0, .int p0), (1, .int p1)] := hl
  unfold GJ27_checkIndex at hF
  refine lv_iload_n hx hb dJ27_checkIndex_0 rfl (lv_at hl 0 rfl) ?_
  refine lv_iload_n hx hb dJ27_checkIndex_1 rfl (lv_at hl 1 rfl) ?_
  refine lv_null hx hb dJ27_checkIndex_2 ?_
  obtain ⟨r1, u1, e1, hF⟩ := bnd_s hF
  have mm1 : hle u1 out.2 := (show Mo u1 _ from mo_ret hle_rf) _ hF
  obtain ⟨mc1, ms1, hmc1, hms1⟩ := up_of (moJ14_checkIndex h p0 p1 _ e1)
  replace hc := cst_call hc hmc1 hms1
  refine h_calli (va_runS (As := [.int p0, .int p1, .null]) (rest := []) ⟨hx, hb, hml, hown, hts⟩ (mgJ14_checkIndex l D A h p0 p1 _ e1 mc1 ms1 hmc1 hms1) (va_cwS 3 hts (lw_S q942 q943 q119 q944) rfl rfl rfl (by decide +kernel) ⟨Nat.le_of_ble_eq_true rfl, Nat.le_of_ble_eq_true rfl⟩) (h_preS hGr hr hS _) rfl rfl hl.1 rfl (lv_room (Nat.le_of_ble_eq_true rfl)) dJ27_checkIndex_3 ⟨(bud hc mm1 hmc hms).1, (bud hc mm1 hmc hms).2⟩) hS (fun rr uu H locs hw hr hS => ?_)
  obtain rfl : u1 = uu := (congrArg Prod.snd hw).symm
  obtain rfl : r1 = rr := (congrArg Prod.fst hw).symm
  have bz := bud_r hc hF hmc hms
  refine W.widen (k := mc) (n := ms) bz.1 bz.2 ?_
  exact W.iret (v := r1) hx hb hret (fun t ht hWm => ⟨⟨r1, u1, rfl, Option.some.inj hF, h_end hGr hr hS ht hWm⟩, hS.F ht⟩) hS.2.2 dJ27_checkIndex_6

def GJ11_newLength (h : Hp) (p0 : Int32) (p1 : Int32) (p2 : Int32) : Option (Int32 × Hp) := if (p0 + (if p1 < p2 then p2 else p1)) ≤ (0 : Int32) then none else if (2147483639 : Int32) < (p0 + (if p1 < p2 then p2 else p1)) then none else some ((p0 + (if p1 < p2 then p2 else p1)), h)
theorem moJ11_newLength (h : Hp) (p0 : Int32) (p1 : Int32) (p2 : Int32) : Mo h (GJ11_newLength h p0 p1 p2) := by
  unfold GJ11_newLength
  exact mo_ite (mo_no) (mo_ite (mo_no) (mo_ret hle_rf))
set_option maxHeartbeats 4000000 in
set_option maxRecDepth 100000 in
theorem mgJ11_newLength (l : Launch) (D : HD) (A : Nat → Prop) (h : Hp) (p0 : Int32) (p1 : Int32) (p2 : Int32) (out : Int32 × Hp) (hF : GJ11_newLength h p0 p1 p2 = some out) (mc ms : Nat) (hmc : hCc out.2 = hCc h + mc) (hms : hSl out.2 = hSl h + ms) : Met l yJ11_newLength (ws_ yJ11_newLength cJ11_newLength 4 (some .int)) ({ frames := 1, cells := mc, slots := ms, locals := 24 }) (va_Pc [.int p0, .int p1, .int p2] (hW D A h)) (va_Qi (fun r u => (r, u) = out) (hW D A) A) mc ms A := by
  refine va_MetF (cc := cJ11_newLength) (maxL := 4) (ret := (some .int)) (by decide +kernel) rfl ?_
  intro p e s m args below meth c s₁ B hml hv
  obtain ⟨rfl, hr, hGr⟩ := hv
  have hx := B.exec
  have hb := B.bytes
  have hret := B.returns
  have hts := atoms_spec (ws := (ws_ yJ11_newLength cJ11_newLength 4 (some .int))) B.pre
  have hts : ∀ w ∈ lw_all, w.before _ s = true := fun w h => hts w (List.mem_cons_of_mem _ h)
  have hown : s.vm.findClass RJ11 = some m.cls := findClass_of_methodNamed B.named
  have hlocks := B.notSynchronized
  have hS : va_S A s.heap s.heap [] := va_S.rf
  have hc : cst h 0 0 h := cst_0
  have hl := lv_entry ([.int p0, .int p1, .int p2]) (n := 4) (Nat.le_of_ble_eq_true rfl)
  rw [lg_entry_eq]
  generalize (lg_sl ([.int p0, .int p1, .int p2]) ++ List.replicate (4 - (lg_sl ([.int p0, .int p1, .int p2])).length) Slot.unset).toArray = ls at hl ⊢
  have hl : lv_has ls 4 [(0, .int p0), (1, .int p1), (2, .int p2)] := hl
  unfold GJ11_newLength at hF
  refine lv_iload_n hx hb dJ11_newLength_0 rfl (lv_at hl 0 rfl) ?_
  refine lv_iload_n hx hb dJ11_newLength_1 rfl (lv_at hl 1 rfl) ?_
  refine lv_iload_n hx hb dJ11_newLength_2 rfl (lv_at hl 2 rfl) ?_
  have mm1 : hle h out.2 := (show Mo h _ from mo_ite (mo_no) (mo_ite (mo_no) (mo_ret hle_rf))) _ hF
  refine va_mmax hx hb (by rw [hml]; exact hl.1.symm) hown (hts _ q317) (hts _ q318) (hts _ q116) (hts _ q319) (Nat.le_of_ble_eq_true rfl) (Nat.le_of_ble_eq_true rfl) (bud hc mm1 hmc hms).1 (bud hc mm1 hmc hms).2 dJ11_newLength_3 ?_
  refine lv_iadd hx hb dJ11_newLength_6 ?_
  refine lv_istore_n (lv' := [(3, .int (p0 + (if p1 < p2 then p2 else p1))), (0, .int p0), (1, .int p1), (2, .int p2)]) hx hb dJ11_newLength_7 rfl hl (by decide) rfl (fun ls hl => ?_)
  refine lv_iconst (v := 0) hx hb dJ11_newLength_8 (by decide) ?_
  refine lv_iload_n hx hb dJ11_newLength_9 rfl (lv_at hl 0 rfl) ?_
  refine lv_icmp_ge (tgt := 21) hx hb dJ11_newLength_10 (by decide) (fun c2 => ?_) (fun c2 => ?_)
  · replace hF := it_t c2 hF
    exact nomatch hF
  · replace hF := it_f c2 hF
    refine lv_iload_n hx hb dJ11_newLength_13 rfl (lv_at hl 0 rfl) ?_
    refine lv_ldc hx hb hown (hts _ q320) dJ11_newLength_14 ?_
    refine lv_icmp_gt (tgt := 21) hx hb dJ11_newLength_16 (by decide) (fun c3 => ?_) (fun c3 => ?_)
    · replace hF := it_t c3 hF
      exact nomatch hF
    · replace hF := it_f c3 hF
      refine lv_iload_n hx hb dJ11_newLength_19 rfl (lv_at hl 0 rfl) ?_
      have bz := bud_r hc hF hmc hms
      refine W.widen (k := mc) (n := ms) bz.1 bz.2 ?_
      exact W.iret (v := (p0 + (if p1 < p2 then p2 else p1))) hx hb hret (fun t ht hWm => ⟨⟨(p0 + (if p1 < p2 then p2 else p1)), h, rfl, Option.some.inj hF, h_end hGr hr hS ht hWm⟩, hS.F ht⟩) hS.2.2 dJ11_newLength_20

def GJ13_copyOf_3 (h : Hp) (a0 : Nat) (p1 : Int32) : Option (Nat × Hp) := nQ h 2 p1 (fun a1_ h1 => aL h1 a0 (fun x2_ => cQ h1 a0 (0 : Int32) a1_ (0 : Int32) (if p1 < x2_ then p1 else x2_) (fun h4 => some (a1_, h4))))
theorem moJ13_copyOf_3 (h : Hp) (a0 : Nat) (p1 : Int32) : Mo h (GJ13_copyOf_3 h a0 p1) := by
  unfold GJ13_copyOf_3
  exact mo_nQ hle_rf (fun a1_ h1 m1 => mo_aL (fun x2_ => mo_cQ m1 (fun h4 m4 => mo_ret m4)))
set_option maxHeartbeats 4000000 in
set_option maxRecDepth 100000 in
theorem mgJ13_copyOf_3 (l : Launch) (D : HD) (A : Nat → Prop) (h : Hp) (a0 : Nat) (p1 : Int32) (out : Nat × Hp) (hF : GJ13_copyOf_3 h a0 p1 = some out) (mc ms : Nat) (hmc : hCc out.2 = hCc h + mc) (hms : hSl out.2 = hSl h + ms) : Met l yJ13_copyOf_3 (ws_ yJ13_copyOf_3 cJ13_copyOf_3 4 (some (.array (.object "java/lang/Object")))) ({ frames := 1, cells := mc, slots := ms, locals := 80 }) (va_Pc [.ref a0, .int p1, .ref (D.2 200)] (hW D A h)) (va_Qr (fun _ : Hp => True) (fun u r t => (r, u) = out ∧ hW D A u t) A) mc ms A := by
  refine va_MetF (cc := cJ13_copyOf_3) (maxL := 4) (ret := (some (.array (.object "java/lang/Object")))) (by decide +kernel) rfl ?_
  intro p e s m args below meth c s₁ B hml hv
  obtain ⟨rfl, hr, hGr⟩ := hv
  have hx := B.exec
  have hb := B.bytes
  have hret := B.returns
  have hts := atoms_spec (ws := (ws_ yJ13_copyOf_3 cJ13_copyOf_3 4 (some (.array (.object "java/lang/Object"))))) B.pre
  have hts : ∀ w ∈ lw_all, w.before _ s = true := fun w h => hts w (List.mem_cons_of_mem _ h)
  have hown : s.vm.findClass RJ13 = some m.cls := findClass_of_methodNamed B.named
  have hlocks := B.notSynchronized
  have hS : va_S A s.heap s.heap [] := va_S.rf
  have hc : cst h 0 0 h := cst_0
  have hl := lv_entry ([.ref a0, .int p1, .ref (D.2 200)]) (n := 4) (Nat.le_of_ble_eq_true rfl)
  rw [lg_entry_eq]
  generalize (lg_sl ([.ref a0, .int p1, .ref (D.2 200)]) ++ List.replicate (4 - (lg_sl ([.ref a0, .int p1, .ref (D.2 200)])).length) Slot.unset).toArray = ls at hl ⊢
  have hl : lv_has ls 4 [(0, .ref a0), (1, .int p1), (2, .ref (D.2 200))] := hl
  unfold GJ13_copyOf_3 at hF
  refine lv_aload_n hx hb dJ13_copyOf_3_0 rfl (lv_at hl 2 rfl) ?_
  refine va_ldcM hx hb hown (hts _ q707) hGr.mi dJ13_copyOf_3_1 ?_
  refine lv_acmp_ne (rx := some (D.2 200)) (ry := some (D.2 200)) (tgt := 13) hx hb dJ13_copyOf_3_3 (by decide) (fun c9 => absurd rfl c9) (fun c9 => ?_)
  refine lv_iload_n hx hb dJ13_copyOf_3_6 rfl (lv_at hl 1 rfl) ?_
  obtain ⟨a1_, h1, ea1, eh1, g1, hF⟩ := nQ_s hF
  have mm1 : hle h1 out.2 := (show Mo h1 _ from mo_aL (fun x2_ => mo_cQ hle_rf (fun h4 m4 => mo_ret m4))) _ hF
  replace hc := cst_new hc eh1
  refine h_newO hx hb hown (hts _ q708) hGr hr hS g1 (bud hc mm1 hmc hms).1 (bud hc mm1 hmc hms).2 dJ13_copyOf_3_7 (fun H hr hS => ?_)
  rw [← eh1] at hr
  rw [← ea1]
  refine lv_goto (tgt := 24) hx hb dJ13_copyOf_3_10 (by decide) ?_
  refine lv_astore_n (lv' := [(3, .ref a1_), (0, .ref a0), (1, .int p1), (2, .ref (D.2 200))]) hx hb dJ13_copyOf_3_24 rfl hl (by decide) rfl (fun ls hl => ?_)
  refine lv_aload_n hx hb dJ13_copyOf_3_25 rfl (lv_at hl 1 rfl) ?_
  refine lv_iconst (v := 0) hx hb dJ13_copyOf_3_26 (by decide) ?_
  refine lv_aload_n hx hb dJ13_copyOf_3_27 rfl (lv_at hl 0 rfl) ?_
  refine lv_iconst (v := 0) hx hb dJ13_copyOf_3_28 (by decide) ?_
  refine lv_aload_n hx hb dJ13_copyOf_3_29 rfl (lv_at hl 1 rfl) ?_
  obtain ⟨k2, y2, e2, g2, hF⟩ := aL_s hF
  obtain ⟨x2_, ex2⟩ : ∃ z, z = Int32.ofNat y2.1 := ⟨_, rfl⟩
  rw [← ex2] at hF
  refine h_alen hx hb hGr hr e2 g2 dJ13_copyOf_3_30 ?_
  rw [← ex2]
  refine lv_iload_n hx hb dJ13_copyOf_3_31 rfl (lv_at hl 2 rfl) ?_
  have mm3 : hle h1 out.2 := (show Mo h1 _ from mo_cQ hle_rf (fun h4 m4 => mo_ret m4)) _ hF
  refine va_mmin hx hb (by rw [hml]; exact hl.1.symm) hown (hts _ q335) (hts _ q336) (hts _ q116) (hts _ q337) (Nat.le_of_ble_eq_true rfl) (Nat.le_of_ble_eq_true rfl) (bud hc mm3 hmc hms).1 (bud hc mm3 hmc hms).2 dJ13_copyOf_3_32 ?_
  obtain ⟨n4, f4, nn4, g4, ea4, e4, lo4, cp4, el4, hF⟩ := cQ_s hF
  obtain ⟨h4, eh4⟩ : ∃ z, z = hPut h1 a1_ (.inl (2, nn4, .inr (.inr (.inr (.inr (va_cpy f4 g4 ((0 : Int32)).toNatClampNeg ((0 : Int32)).toNatClampNeg ((if p1 < x2_ then p1 else x2_)).toNatClampNeg)))))) := ⟨_, rfl⟩
  rw [← eh4] at hF
  refine h_copyq hx hb (by rw [hml]; exact hl.1.symm) hown (hts _ q338) (hts _ q340) (hts _ q339) (hts _ q118) hGr hr hS ea4 e4 lo4 cp4 el4 (Nat.le_of_ble_eq_true rfl) (Nat.le_of_ble_eq_true rfl) dJ13_copyOf_3_35 (fun H locs hr hS => ?_)
  rw [← eh4] at hr
  replace hc := cst_put hc eh4
  refine lv_aload_n hx hb dJ13_copyOf_3_38 rfl (lv_at hl 0 rfl) ?_
  have bz := bud_r hc hF hmc hms
  refine W.widen (k := mc) (n := ms) bz.1 bz.2 ?_
  exact W.aret (v := .ref a1_) hx hb hret (Or.inr ⟨_, rfl⟩) (Or.inr ⟨_, rfl⟩) (fun t ht hWm => ⟨⟨h4, a1_, rfl, trivial, Option.some.inj hF, h_end hGr hr hS ht hWm⟩, hS.F ht⟩) hS.2.2 dJ13_copyOf_3_39

def GJ13_copyOf_2 (h : Hp) (a0 : Nat) (p1 : Int32) : Option (Nat × Hp) := gA h a0 2 (bnd (GJ13_copyOf_3 h a0 p1) (fun r2 u2 => some (r2, u2)))
theorem moJ13_copyOf_2 (h : Hp) (a0 : Nat) (p1 : Int32) : Mo h (GJ13_copyOf_2 h a0 p1) := by
  unfold GJ13_copyOf_2
  exact mo_gA (mo_bnd (moJ13_copyOf_3 h a0 p1) hle_rf (fun r2 u2 m2 => mo_ret m2))
set_option maxHeartbeats 4000000 in
set_option maxRecDepth 100000 in
theorem mgJ13_copyOf_2 (l : Launch) (D : HD) (A : Nat → Prop) (h : Hp) (a0 : Nat) (p1 : Int32) (out : Nat × Hp) (hF : GJ13_copyOf_2 h a0 p1 = some out) (mc ms : Nat) (hmc : hCc out.2 = hCc h + mc) (hms : hSl out.2 = hSl h + ms) : Met l yJ13_copyOf_2 (ws_ yJ13_copyOf_2 cJ13_copyOf_2 2 (some (.array (.object "java/lang/Object")))) ({ frames := 2, cells := mc, slots := ms, locals := 103 }) (va_Pc [.ref a0, .int p1] (hW D A h)) (va_Qr (fun _ : Hp => True) (fun u r t => (r, u) = out ∧ hW D A u t) A) mc ms A := by
  refine va_MetF (cc := cJ13_copyOf_2) (maxL := 2) (ret := (some (.array (.object "java/lang/Object")))) (by decide +kernel) rfl ?_
  intro p e s m args below meth c s₁ B hml hv
  obtain ⟨rfl, hr, hGr⟩ := hv
  have hx := B.exec
  have hb := B.bytes
  have hret := B.returns
  have hts := atoms_spec (ws := (ws_ yJ13_copyOf_2 cJ13_copyOf_2 2 (some (.array (.object "java/lang/Object"))))) B.pre
  have hts : ∀ w ∈ lw_all, w.before _ s = true := fun w h => hts w (List.mem_cons_of_mem _ h)
  have hown : s.vm.findClass RJ13 = some m.cls := findClass_of_methodNamed B.named
  have hlocks := B.notSynchronized
  have hS : va_S A s.heap s.heap [] := va_S.rf
  have hc : cst h 0 0 h := cst_0
  have hl := lv_entry ([.ref a0, .int p1]) (n := 2) (Nat.le_of_ble_eq_true rfl)
  rw [lg_entry_eq]
  generalize (lg_sl ([.ref a0, .int p1]) ++ List.replicate (2 - (lg_sl ([.ref a0, .int p1])).length) Slot.unset).toArray = ls at hl ⊢
  have hl : lv_has ls 2 [(0, .ref a0), (1, .int p1)] := hl
  unfold GJ13_copyOf_2 at hF
  refine lv_aload_n hx hb dJ13_copyOf_2_0 rfl (lv_at hl 0 rfl) ?_
  refine lv_iload_n hx hb dJ13_copyOf_2_1 rfl (lv_at hl 1 rfl) ?_
  refine lv_aload_n hx hb dJ13_copyOf_2_2 rfl (lv_at hl 0 rfl) ?_
  obtain ⟨y1, e1, hF⟩ := gA_s hF
  refine va_getC hx hb (by rw [hml]; exact hl.1.symm) hown (hts _ q719) (va_Dc.use hGr.dc) (hts _ q2540) (hts _ q720) (hts _ q748) hGr.mi (h_recvA hGr hr e1) (Nat.le_of_ble_eq_true rfl) (Nat.le_of_ble_eq_true rfl) dJ13_copyOf_2_3 ?_
  obtain ⟨r2, u2, e2, hF⟩ := bnd_s hF
  have mm2 : hle u2 out.2 := (show Mo u2 _ from mo_ret hle_rf) _ hF
  obtain ⟨mc2, ms2, hmc2, hms2⟩ := up_of (moJ13_copyOf_3 h a0 p1 _ e2)
  replace hc := cst_call hc hmc2 hms2
  refine h_callr (va_runS (As := [.ref a0, .int p1, .ref (D.2 200)]) (rest := []) ⟨hx, hb, hml, hown, hts⟩ (mgJ13_copyOf_3 l D A h a0 p1 _ e2 mc2 ms2 hmc2 hms2) (va_cwS 3 hts (lw_S q749 q750 q117 q751) rfl rfl rfl (by decide +kernel) ⟨Nat.le_of_ble_eq_true rfl, Nat.le_of_ble_eq_true rfl⟩) (h_preS hGr hr hS _) rfl rfl hl.1 rfl (lv_room (Nat.le_of_ble_eq_true rfl)) dJ13_copyOf_2_6 ⟨(bud hc mm2 hmc hms).1, (bud hc mm2 hmc hms).2⟩) hS (fun rr uu H locs hw hr hS => ?_)
  obtain rfl : u2 = uu := (congrArg Prod.snd hw).symm
  obtain rfl : r2 = rr := (congrArg Prod.fst hw).symm
  have bz := bud_r hc hF hmc hms
  refine W.widen (k := mc) (n := ms) bz.1 bz.2 ?_
  exact W.aret (v := .ref r2) hx hb hret (Or.inr ⟨_, rfl⟩) (Or.inr ⟨_, rfl⟩) (fun t ht hWm => ⟨⟨u2, r2, rfl, trivial, Option.some.inj hF, h_end hGr hr hS ht hWm⟩, hS.F ht⟩) hS.2.2 dJ13_copyOf_2_9

def GJ2_init (h : Hp) (a0 : Nat) (p1 : Int32) : Option (Int32 × Hp) := bnd (GJ1_init h a0) (fun r1 u1 => if p1 ≤ 0 then none else nQ u1 2 p1 (fun a3_ h3 => pV h3 a0 10 1 (.ref a3_) (fun h4 => some (0, h4))))
theorem moJ2_init (h : Hp) (a0 : Nat) (p1 : Int32) : Mo h (GJ2_init h a0 p1) := by
  unfold GJ2_init
  exact mo_bnd (moJ1_init h a0) hle_rf (fun r1 u1 m1 => mo_ite (mo_no) (mo_nQ m1 (fun a3_ h3 m3 => mo_pV m3 (fun h4 m4 => mo_ret m4))))
set_option maxHeartbeats 4000000 in
set_option maxRecDepth 100000 in
theorem mgJ2_init (l : Launch) (D : HD) (A : Nat → Prop) (h : Hp) (a0 : Nat) (p1 : Int32) (out : Int32 × Hp) (hF : GJ2_init h a0 p1 = some out) (mc ms : Nat) (hmc : hCc out.2 = hCc h + mc) (hms : hSl out.2 = hSl h + ms) : Met l yJ2_init (ws_ yJ2_init cJ2_init 2 none) ({ frames := 3, cells := mc, slots := ms, locals := 60 }) (va_Pc [.ref a0, .int p1] (hW D A h)) (va_Qv (fun u => (0, u) = out) (hW D A) A) mc ms A := by
  refine va_MetF (cc := cJ2_init) (maxL := 2) (ret := none) (by decide +kernel) rfl ?_
  intro p e s m args below meth c s₁ B hml hv
  obtain ⟨rfl, hr, hGr⟩ := hv
  have hx := B.exec
  have hb := B.bytes
  have hret := B.returns
  have hts := atoms_spec (ws := (ws_ yJ2_init cJ2_init 2 none)) B.pre
  have hts : ∀ w ∈ lw_all, w.before _ s = true := fun w h => hts w (List.mem_cons_of_mem _ h)
  have hown : s.vm.findClass RJ2 = some m.cls := findClass_of_methodNamed B.named
  have hlocks := B.notSynchronized
  have hin : meth.name = "<init>" := (name_of_methodNamed B.named B.method).1
  have hS : va_S A s.heap s.heap [] := va_S.rf
  have hc : cst h 0 0 h := cst_0
  have hl := lv_entry ([.ref a0, .int p1]) (n := 2) (Nat.le_of_ble_eq_true rfl)
  rw [lg_entry_eq]
  generalize (lg_sl ([.ref a0, .int p1]) ++ List.replicate (2 - (lg_sl ([.ref a0, .int p1])).length) Slot.unset).toArray = ls at hl ⊢
  have hl : lv_has ls 2 [(0, .ref a0), (1, .int p1)] := hl
  unfold GJ2_init at hF
  refine lv_aload_n hx hb dJ2_init_0 rfl (lv_at hl 0 rfl) ?_
  obtain ⟨r1, u1, e1, hF⟩ := bnd_s hF
  have mm1 : hle u1 out.2 := (show Mo u1 _ from mo_ite (mo_no) (mo_nQ hle_rf (fun a3_ h3 m3 => mo_pV m3 (fun h4 m4 => mo_ret m4)))) _ hF
  obtain ⟨mc1, ms1, hmc1, hms1⟩ := up_of (moJ1_init h a0 _ e1)
  replace hc := cst_call hc hmc1 hms1
  refine h_callv (va_runI (As := []) (rest := []) ⟨hx, hb, hml, hown, hts⟩ (mgJ1_init l D A h a0 _ e1 mc1 ms1 hmc1 hms1) (cwI 0 hts (lw_meth q189) rfl rfl rfl (hts _ q105) (hts _ q187) (hts _ q188) rfl (by decide +kernel) ⟨Nat.le_of_ble_eq_true rfl, Nat.le_of_ble_eq_true rfl⟩) (h_preS hGr hr hS _) rfl rfl hl.1 rfl (lv_room (Nat.le_of_ble_eq_true rfl)) dJ2_init_1 ⟨(bud hc mm1 hmc hms).1, (bud hc mm1 hmc hms).2⟩) hS (fun uu H locs hw hr hS => ?_)
  obtain rfl : u1 = uu := (congrArg Prod.snd hw).symm
  refine lv_iload_n hx hb dJ2_init_4 rfl (lv_at hl 1 rfl) ?_
  refine lv_if_le (tgt := 19) hx hb dJ2_init_5 (by decide) (fun c2 => ?_) (fun c2 => ?_)
  · replace hF := it_t c2 hF
    exact nomatch hF
  · replace hF := it_f c2 hF
    refine lv_aload_n hx hb dJ2_init_8 rfl (lv_at hl 0 rfl) ?_
    refine lv_iload_n hx hb dJ2_init_9 rfl (lv_at hl 1 rfl) ?_
    obtain ⟨a3_, h3, ea3, eh3, g3, hF⟩ := nQ_s hF
    have mm3 : hle h3 out.2 := (show Mo h3 _ from mo_pV hle_rf (fun h4 m4 => mo_ret m4)) _ hF
    replace hc := cst_new hc eh3
    refine h_newO hx hb hown (hts _ q194) hGr hr hS g3 (bud hc mm3 hmc hms).1 (bud hc mm3 hmc hms).2 dJ2_init_10 (fun H hr hS => ?_)
    rw [← eh3] at hr
    rw [← ea3]
    obtain ⟨fs4, e4, k4, lo4, hF⟩ := pV_s hF
    obtain ⟨h4, eh4⟩ : ∃ z, z = hPut h3 a0 (.inr (10, fs4.set 1 (.ref a3_))) := ⟨_, rfl⟩
    rw [← eh4] at hF
    refine h_put (C := RJ2) (T := TJ2) (N := 3) hx hb hts in_J2 tyJ2 tyJ2_ok nmJ2 hown hGr hr hS e4 (by decide) rfl 1 (by decide) (hts _ q535) (fun _ h9 => h9) rfl (tyJ2_ok 1 (by decide)) rfl rfl k4 lo4 dJ2_init_13 (fun H locs hr hS => ?_)
    rw [← eh4] at hr
    replace hc := cst_put hc eh4
    refine lv_goto (tgt := 60) hx hb dJ2_init_16 (by decide) ?_
    have bz := bud_r hc hF hmc hms
    refine W.widen (k := mc) (n := ms) bz.1 bz.2 ?_
    exact W.vret hx hb hret (fun t ht hWm => ⟨⟨h4, rfl, Option.some.inj hF, h_end hGr hr hS ht hWm⟩, hS.F ht⟩) hS.2.2 dJ2_init_60

def GJ2_elementData (h : Hp) (a0 : Nat) (p1 : Int32) : Option (Nat × Hp) := gQ h a0 10 1 (fun x1_ => aQ h x1_ 2 p1 (fun x2_ => some (x2_, h)))
theorem moJ2_elementData (h : Hp) (a0 : Nat) (p1 : Int32) : Mo h (GJ2_elementData h a0 p1) := by
  unfold GJ2_elementData
  exact mo_gQ (fun x1_ => mo_aQ (fun x2_ => mo_ret hle_rf))
set_option maxHeartbeats 4000000 in
set_option maxRecDepth 100000 in
theorem mgJ2_elementData (l : Launch) (D : HD) (A : Nat → Prop) (h : Hp) (a0 : Nat) (p1 : Int32) (out : Nat × Hp) (hF : GJ2_elementData h a0 p1 = some out) (mc ms : Nat) (hmc : hCc out.2 = hCc h + mc) (hms : hSl out.2 = hSl h + ms) : Met l yJ2_elementData (ws_ yJ2_elementData cJ2_elementData 2 (some (.object "java/lang/Object"))) ({ frames := 0, cells := mc, slots := ms, locals := 0 }) (va_Pc [.ref a0, .int p1] (hW D A h)) (va_Qr (fun _ : Hp => True) (fun u r t => (r, u) = out ∧ hW D A u t) A) mc ms A := by
  refine va_MetF (cc := cJ2_elementData) (maxL := 2) (ret := (some (.object "java/lang/Object"))) (by decide +kernel) rfl ?_
  intro p e s m args below meth c s₁ B hml hv
  obtain ⟨rfl, hr, hGr⟩ := hv
  have hx := B.exec
  have hb := B.bytes
  have hret := B.returns
  have hts := atoms_spec (ws := (ws_ yJ2_elementData cJ2_elementData 2 (some (.object "java/lang/Object")))) B.pre
  have hts : ∀ w ∈ lw_all, w.before _ s = true := fun w h => hts w (List.mem_cons_of_mem _ h)
  have hown : s.vm.findClass RJ2 = some m.cls := findClass_of_methodNamed B.named
  have hlocks := B.notSynchronized
  have hS : va_S A s.heap s.heap [] := va_S.rf
  have hc : cst h 0 0 h := cst_0
  have hl := lv_entry ([.ref a0, .int p1]) (n := 2) (Nat.le_of_ble_eq_true rfl)
  rw [lg_entry_eq]
  generalize (lg_sl ([.ref a0, .int p1]) ++ List.replicate (2 - (lg_sl ([.ref a0, .int p1])).length) Slot.unset).toArray = ls at hl ⊢
  have hl : lv_has ls 2 [(0, .ref a0), (1, .int p1)] := hl
  unfold GJ2_elementData at hF
  refine lv_aload_n hx hb dJ2_elementData_0 rfl (lv_at hl 0 rfl) ?_
  obtain ⟨fs1, x1_, e1, f1, hF⟩ := gQ_s hF
  refine h_get (C := RJ2) (T := TJ2) (N := 3) hx hb hts in_J2 hown hGr hr e1 (by decide) rfl 1 (by decide) (hts _ q535) (fun _ h9 => h9) f1 dJ2_elementData_1 ?_
  refine lv_iload_n hx hb dJ2_elementData_4 rfl (lv_at hl 1 rfl) ?_
  obtain ⟨n2, f2, x2_, e2, g2, ex2, hF⟩ := aQ_s hF
  refine h_aald hx hb hGr hr (by decide) e2 g2 dJ2_elementData_5 (v := .ref x2_) (by rw [ex2]; rfl) ?_
  have bz := bud_r hc hF hmc hms
  refine W.widen (k := mc) (n := ms) bz.1 bz.2 ?_
  exact W.aret (v := .ref x2_) hx hb hret (Or.inl ⟨_, rfl⟩) (Or.inr ⟨_, rfl⟩) (fun t ht hWm => ⟨⟨h, x2_, rfl, trivial, Option.some.inj hF, h_end hGr hr hS ht hWm⟩, hS.F ht⟩) hS.2.2 dJ2_elementData_6

def GJ2_get (h : Hp) (a0 : Nat) (p1 : Int32) : Option (Nat × Hp) := gI h a0 10 2 (fun x1_ => bnd (GJ27_checkIndex h p1 x1_) (fun r2 u2 => gC u2 a0 10 (bnd (GJ2_elementData u2 a0 p1) (fun r3 u3 => some (r3, u3)))))
theorem moJ2_get (h : Hp) (a0 : Nat) (p1 : Int32) : Mo h (GJ2_get h a0 p1) := by
  unfold GJ2_get
  exact mo_gI (fun x1_ => mo_bnd (moJ27_checkIndex h p1 x1_) hle_rf (fun r2 u2 m2 => mo_gC (mo_bnd (moJ2_elementData u2 a0 p1) m2 (fun r3 u3 m3 => mo_ret m3))))
set_option maxHeartbeats 4000000 in
set_option maxRecDepth 100000 in
theorem mgJ2_get (l : Launch) (D : HD) (A : Nat → Prop) (h : Hp) (a0 : Nat) (p1 : Int32) (out : Nat × Hp) (hF : GJ2_get h a0 p1 = some out) (mc ms : Nat) (hmc : hCc out.2 = hCc h + mc) (hms : hSl out.2 = hSl h + ms) : Met l yJ2_get (ws_ yJ2_get cJ2_get 2 (some (.object "java/lang/Object"))) ({ frames := 2, cells := mc, slots := ms, locals := 43 }) (va_Pc [.ref a0, .int p1] (hW D A h)) (va_Qr (fun _ : Hp => True) (fun u r t => (r, u) = out ∧ hW D A u t) A) mc ms A := by
  refine va_MetF (cc := cJ2_get) (maxL := 2) (ret := (some (.object "java/lang/Object"))) (by decide +kernel) rfl ?_
  intro p e s m args below meth c s₁ B hml hv
  obtain ⟨rfl, hr, hGr⟩ := hv
  have hx := B.exec
  have hb := B.bytes
  have hret := B.returns
  have hts := atoms_spec (ws := (ws_ yJ2_get cJ2_get 2 (some (.object "java/lang/Object")))) B.pre
  have hts : ∀ w ∈ lw_all, w.before _ s = true := fun w h => hts w (List.mem_cons_of_mem _ h)
  have hown : s.vm.findClass RJ2 = some m.cls := findClass_of_methodNamed B.named
  have hlocks := B.notSynchronized
  have hS : va_S A s.heap s.heap [] := va_S.rf
  have hc : cst h 0 0 h := cst_0
  have hl := lv_entry ([.ref a0, .int p1]) (n := 2) (Nat.le_of_ble_eq_true rfl)
  rw [lg_entry_eq]
  generalize (lg_sl ([.ref a0, .int p1]) ++ List.replicate (2 - (lg_sl ([.ref a0, .int p1])).length) Slot.unset).toArray = ls at hl ⊢
  have hl : lv_has ls 2 [(0, .ref a0), (1, .int p1)] := hl
  unfold GJ2_get at hF
  refine lv_iload_n hx hb dJ2_get_0 rfl (lv_at hl 1 rfl) ?_
  refine lv_aload_n hx hb dJ2_get_1 rfl (lv_at hl 0 rfl) ?_
  obtain ⟨fs1, x1_, e1, f1, hF⟩ := gI_s hF
  refine h_get (C := RJ2) (T := TJ2) (N := 3) hx hb hts in_J2 hown hGr hr e1 (by decide) rfl 2 (by decide) (hts _ q536) (fun _ h9 => h9) f1 dJ2_get_2 ?_
  obtain ⟨r2, u2, e2, hF⟩ := bnd_s hF
  have mm2 : hle u2 out.2 := (show Mo u2 _ from mo_gC (mo_bnd (moJ2_elementData u2 a0 p1) hle_rf (fun r3 u3 m3 => mo_ret m3))) _ hF
  obtain ⟨mc2, ms2, hmc2, hms2⟩ := up_of (moJ27_checkIndex h p1 x1_ _ e2)
  replace hc := cst_call hc hmc2 hms2
  refine h_calli (va_runS (As := [.int p1, .int x1_]) (rest := []) ⟨hx, hb, hml, hown, hts⟩ (mgJ27_checkIndex l D A h p1 x1_ _ e2 mc2 ms2 hmc2 hms2) (va_cwS 2 hts (lw_S q939 q940 q137 q941) rfl rfl rfl (by decide +kernel) ⟨Nat.le_of_ble_eq_true rfl, Nat.le_of_ble_eq_true rfl⟩) (h_preS hGr hr hS _) rfl rfl hl.1 rfl (lv_room (Nat.le_of_ble_eq_true rfl)) dJ2_get_5 ⟨(bud hc mm2 hmc hms).1, (bud hc mm2 hmc hms).2⟩) hS (fun rr uu H locs hw hr hS => ?_)
  obtain rfl : u2 = uu := (congrArg Prod.snd hw).symm
  obtain rfl : r2 = rr := (congrArg Prod.fst hw).symm
  refine lv_pop hx hb dJ2_get_8 rfl ?_
  refine lv_aload_n hx hb dJ2_get_9 rfl (lv_at hl 0 rfl) ?_
  refine lv_iload_n hx hb dJ2_get_10 rfl (lv_at hl 1 rfl) ?_
  obtain ⟨fc3, ec3, hF⟩ := gC_s hF
  obtain ⟨r3, u3, e3, hF⟩ := bnd_s hF
  have mm3 : hle u3 out.2 := (show Mo u3 _ from mo_ret hle_rf) _ hF
  obtain ⟨mc3, ms3, hmc3, hms3⟩ := up_of (moJ2_elementData u2 a0 p1 _ e3)
  replace hc := cst_call hc hmc3 hms3
  refine h_callr (va_runV (As := [.int p1]) (rest := []) ⟨hx, hb, hml, hown, hts⟩ (mgJ2_elementData l D A u2 a0 p1 _ e3 mc3 ms3 hmc3 hms3) (cwV 1 hts (lw_V q945 q946 q947 q106 q948) rfl rfl rfl (by decide +kernel) ⟨Nat.le_of_ble_eq_true rfl, Nat.le_of_ble_eq_true rfl⟩) (h_preV hGr hr hS ec3 (by decide) (q := (RJ2, TJ2, 3)) rfl _) rfl rfl hl.1 rfl (lv_room (Nat.le_of_ble_eq_true rfl)) dJ2_get_11 ⟨(bud hc mm3 hmc hms).1, (bud hc mm3 hmc hms).2⟩) hS (fun rr uu H locs hw hr hS => ?_)
  obtain rfl : u3 = uu := (congrArg Prod.snd hw).symm
  obtain rfl : r3 = rr := (congrArg Prod.fst hw).symm
  have bz := bud_r hc hF hmc hms
  refine W.widen (k := mc) (n := ms) bz.1 bz.2 ?_
  exact W.aret (v := .ref r3) hx hb hret (Or.inl ⟨_, rfl⟩) (Or.inr ⟨_, rfl⟩) (fun t ht hWm => ⟨⟨u3, r3, rfl, trivial, Option.some.inj hF, h_end hGr hr hS ht hWm⟩, hS.F ht⟩) hS.2.2 dJ2_get_14

def GJ2_size (h : Hp) (a0 : Nat) : Option (Int32 × Hp) := gI h a0 10 2 (fun x1_ => some (x1_, h))
theorem moJ2_size (h : Hp) (a0 : Nat) : Mo h (GJ2_size h a0) := by
  unfold GJ2_size
  exact mo_gI (fun x1_ => mo_ret hle_rf)
set_option maxHeartbeats 4000000 in
set_option maxRecDepth 100000 in
theorem mgJ2_size (l : Launch) (D : HD) (A : Nat → Prop) (h : Hp) (a0 : Nat) (out : Int32 × Hp) (hF : GJ2_size h a0 = some out) (mc ms : Nat) (hmc : hCc out.2 = hCc h + mc) (hms : hSl out.2 = hSl h + ms) : Met l yJ2_size (ws_ yJ2_size cJ2_size 1 (some .int)) ({ frames := 0, cells := mc, slots := ms, locals := 0 }) (va_Pc [.ref a0] (hW D A h)) (va_Qi (fun r u => (r, u) = out) (hW D A) A) mc ms A := by
  refine va_MetF (cc := cJ2_size) (maxL := 1) (ret := (some .int)) (by decide +kernel) rfl ?_
  intro p e s m args below meth c s₁ B hml hv
  obtain ⟨rfl, hr, hGr⟩ := hv
  have hx := B.exec
  have hb := B.bytes
  have hret := B.returns
  have hts := atoms_spec (ws := (ws_ yJ2_size cJ2_size 1 (some .int))) B.pre
  have hts : ∀ w ∈ lw_all, w.before _ s = true := fun w h => hts w (List.mem_cons_of_mem _ h)
  have hown : s.vm.findClass RJ2 = some m.cls := findClass_of_methodNamed B.named
  have hlocks := B.notSynchronized
  have hS : va_S A s.heap s.heap [] := va_S.rf
  have hc : cst h 0 0 h := cst_0
  have hl := lv_entry ([.ref a0]) (n := 1) (Nat.le_of_ble_eq_true rfl)
  rw [lg_entry_eq]
  generalize (lg_sl ([.ref a0]) ++ List.replicate (1 - (lg_sl ([.ref a0])).length) Slot.unset).toArray = ls at hl ⊢
  have hl : lv_has ls 1 [(0, .ref a0)] := hl
  unfold GJ2_size at hF
  refine lv_aload_n hx hb dJ2_size_0 rfl (lv_at hl 0 rfl) ?_
  obtain ⟨fs1, x1_, e1, f1, hF⟩ := gI_s hF
  refine h_get (C := RJ2) (T := TJ2) (N := 3) hx hb hts in_J2 hown hGr hr e1 (by decide) rfl 2 (by decide) (hts _ q536) (fun _ h9 => h9) f1 dJ2_size_1 ?_
  have bz := bud_r hc hF hmc hms
  refine W.widen (k := mc) (n := ms) bz.1 bz.2 ?_
  exact W.iret (v := x1_) hx hb hret (fun t ht hWm => ⟨⟨x1_, h, rfl, Option.some.inj hF, h_end hGr hr hS ht hWm⟩, hS.F ht⟩) hS.2.2 dJ2_size_4

def GJ2_isEmpty (h : Hp) (a0 : Nat) : Option (Int32 × Hp) := gI h a0 10 2 (fun x1_ => if x1_ = 0 then some ((1 : Int32), h) else some ((0 : Int32), h))
theorem moJ2_isEmpty (h : Hp) (a0 : Nat) : Mo h (GJ2_isEmpty h a0) := by
  unfold GJ2_isEmpty
  exact mo_gI (fun x1_ => mo_ite (mo_ret hle_rf) (mo_ret hle_rf))
set_option maxHeartbeats 4000000 in
set_option maxRecDepth 100000 in
theorem mgJ2_isEmpty (l : Launch) (D : HD) (A : Nat → Prop) (h : Hp) (a0 : Nat) (out : Int32 × Hp) (hF : GJ2_isEmpty h a0 = some out) (mc ms : Nat) (hmc : hCc out.2 = hCc h + mc) (hms : hSl out.2 = hSl h + ms) : Met l yJ2_isEmpty (ws_ yJ2_isEmpty cJ2_isEmpty 1 (some .boolean)) ({ frames := 0, cells := mc, slots := ms, locals := 0 }) (va_Pc [.ref a0] (hW D A h)) (va_Qi (fun r u => (r, u) = out) (hW D A) A) mc ms A := by
  refine va_MetF (cc := cJ2_isEmpty) (maxL := 1) (ret := (some .boolean)) (by decide +kernel) rfl ?_
  intro p e s m args below meth c s₁ B hml hv
  obtain ⟨rfl, hr, hGr⟩ := hv
  have hx := B.exec
  have hb := B.bytes
  have hret := B.returns
  have hts := atoms_spec (ws := (ws_ yJ2_isEmpty cJ2_isEmpty 1 (some .boolean))) B.pre
  have hts : ∀ w ∈ lw_all, w.before _ s = true := fun w h => hts w (List.mem_cons_of_mem _ h)
  have hown : s.vm.findClass RJ2 = some m.cls := findClass_of_methodNamed B.named
  have hlocks := B.notSynchronized
  have hS : va_S A s.heap s.heap [] := va_S.rf
  have hc : cst h 0 0 h := cst_0
  have hl := lv_entry ([.ref a0]) (n := 1) (Nat.le_of_ble_eq_true rfl)
  rw [lg_entry_eq]
  generalize (lg_sl ([.ref a0]) ++ List.replicate (1 - (lg_sl ([.ref a0])).length) Slot.unset).toArray = ls at hl ⊢
  have hl : lv_has ls 1 [(0, .ref a0)] := hl
  unfold GJ2_isEmpty at hF
  refine lv_aload_n hx hb dJ2_isEmpty_0 rfl (lv_at hl 0 rfl) ?_
  obtain ⟨fs1, x1_, e1, f1, hF⟩ := gI_s hF
  refine h_get (C := RJ2) (T := TJ2) (N := 3) hx hb hts in_J2 hown hGr hr e1 (by decide) rfl 2 (by decide) (hts _ q536) (fun _ h9 => h9) f1 dJ2_isEmpty_1 ?_
  refine lv_if_ne (tgt := 11) hx hb dJ2_isEmpty_4 (by decide) (fun c2 => ?_) (fun c2 => ?_)
  · replace hF := it_f c2 hF
    refine lv_iconst (v := 0) hx hb dJ2_isEmpty_11 (by decide) ?_
    have bz := bud_r hc hF hmc hms
    refine W.widen (k := mc) (n := ms) bz.1 bz.2 ?_
    exact W.zret (v := (0 : Int32)) hx hb hret rfl (fun t ht hWm => ⟨⟨(0 : Int32), h, rfl, Option.some.inj hF, h_end hGr hr hS ht hWm⟩, hS.F ht⟩) hS.2.2 dJ2_isEmpty_12
  · replace hF := it_t c2 hF
    refine lv_iconst (v := 1) hx hb dJ2_isEmpty_7 (by decide) ?_
    refine lv_goto (tgt := 12) hx hb dJ2_isEmpty_8 (by decide) ?_
    have bz := bud_r hc hF hmc hms
    refine W.widen (k := mc) (n := ms) bz.1 bz.2 ?_
    exact W.zret (v := (1 : Int32)) hx hb hret rfl (fun t ht hWm => ⟨⟨(1 : Int32), h, rfl, Option.some.inj hF, h_end hGr hr hS ht hWm⟩, hS.F ht⟩) hS.2.2 dJ2_isEmpty_12

def GJ2_set (h : Hp) (a0 : Nat) (p1 : Int32) (a2 : Nat) : Option (Nat × Hp) := gI h a0 10 2 (fun x1_ => bnd (GJ27_checkIndex h p1 x1_) (fun r2 u2 => gC u2 a0 10 (bnd (GJ2_elementData u2 a0 p1) (fun r3 u3 => gQ u3 a0 10 1 (fun x4_ => sQ u3 x4_ 2 p1 a2 (fun h5 => some (r3, h5)))))))
theorem moJ2_set (h : Hp) (a0 : Nat) (p1 : Int32) (a2 : Nat) : Mo h (GJ2_set h a0 p1 a2) := by
  unfold GJ2_set
  exact mo_gI (fun x1_ => mo_bnd (moJ27_checkIndex h p1 x1_) hle_rf (fun r2 u2 m2 => mo_gC (mo_bnd (moJ2_elementData u2 a0 p1) m2 (fun r3 u3 m3 => mo_gQ (fun x4_ => mo_sQ m3 (fun h5 m5 => mo_ret m5))))))
set_option maxHeartbeats 4000000 in
set_option maxRecDepth 100000 in
theorem mgJ2_set (l : Launch) (D : HD) (A : Nat → Prop) (h : Hp) (a0 : Nat) (p1 : Int32) (a2 : Nat) (out : Nat × Hp) (hF : GJ2_set h a0 p1 a2 = some out) (mc ms : Nat) (hmc : hCc out.2 = hCc h + mc) (hms : hSl out.2 = hSl h + ms) : Met l yJ2_set (ws_ yJ2_set cJ2_set 4 (some (.object "java/lang/Object"))) ({ frames := 2, cells := mc, slots := ms, locals := 43 }) (va_Pc [.ref a0, .int p1, .ref a2] (hW D A h)) (va_Qr (fun _ : Hp => True) (fun u r t => (r, u) = out ∧ hW D A u t) A) mc ms A := by
  refine va_MetF (cc := cJ2_set) (maxL := 4) (ret := (some (.object "java/lang/Object"))) (by decide +kernel) rfl ?_
  intro p e s m args below meth c s₁ B hml hv
  obtain ⟨rfl, hr, hGr⟩ := hv
  have hx := B.exec
  have hb := B.bytes
  have hret := B.returns
  have hts := atoms_spec (ws := (ws_ yJ2_set cJ2_set 4 (some (.object "java/lang/Object")))) B.pre
  have hts : ∀ w ∈ lw_all, w.before _ s = true := fun w h => hts w (List.mem_cons_of_mem _ h)
  have hown : s.vm.findClass RJ2 = some m.cls := findClass_of_methodNamed B.named
  have hlocks := B.notSynchronized
  have hS : va_S A s.heap s.heap [] := va_S.rf
  have hc : cst h 0 0 h := cst_0
  have hl := lv_entry ([.ref a0, .int p1, .ref a2]) (n := 4) (Nat.le_of_ble_eq_true rfl)
  rw [lg_entry_eq]
  generalize (lg_sl ([.ref a0, .int p1, .ref a2]) ++ List.replicate (4 - (lg_sl ([.ref a0, .int p1, .ref a2])).length) Slot.unset).toArray = ls at hl ⊢
  have hl : lv_has ls 4 [(0, .ref a0), (1, .int p1), (2, .ref a2)] := hl
  unfold GJ2_set at hF
  refine lv_iload_n hx hb dJ2_set_0 rfl (lv_at hl 1 rfl) ?_
  refine lv_aload_n hx hb dJ2_set_1 rfl (lv_at hl 0 rfl) ?_
  obtain ⟨fs1, x1_, e1, f1, hF⟩ := gI_s hF
  refine h_get (C := RJ2) (T := TJ2) (N := 3) hx hb hts in_J2 hown hGr hr e1 (by decide) rfl 2 (by decide) (hts _ q536) (fun _ h9 => h9) f1 dJ2_set_2 ?_
  obtain ⟨r2, u2, e2, hF⟩ := bnd_s hF
  have mm2 : hle u2 out.2 := (show Mo u2 _ from mo_gC (mo_bnd (moJ2_elementData u2 a0 p1) hle_rf (fun r3 u3 m3 => mo_gQ (fun x4_ => mo_sQ m3 (fun h5 m5 => mo_ret m5))))) _ hF
  obtain ⟨mc2, ms2, hmc2, hms2⟩ := up_of (moJ27_checkIndex h p1 x1_ _ e2)
  replace hc := cst_call hc hmc2 hms2
  refine h_calli (va_runS (As := [.int p1, .int x1_]) (rest := []) ⟨hx, hb, hml, hown, hts⟩ (mgJ27_checkIndex l D A h p1 x1_ _ e2 mc2 ms2 hmc2 hms2) (va_cwS 2 hts (lw_S q939 q940 q137 q941) rfl rfl rfl (by decide +kernel) ⟨Nat.le_of_ble_eq_true rfl, Nat.le_of_ble_eq_true rfl⟩) (h_preS hGr hr hS _) rfl rfl hl.1 rfl (lv_room (Nat.le_of_ble_eq_true rfl)) dJ2_set_5 ⟨(bud hc mm2 hmc hms).1, (bud hc mm2 hmc hms).2⟩) hS (fun rr uu H locs hw hr hS => ?_)
  obtain rfl : u2 = uu := (congrArg Prod.snd hw).symm
  obtain rfl : r2 = rr := (congrArg Prod.fst hw).symm
  refine lv_pop hx hb dJ2_set_8 rfl ?_
  refine lv_aload_n hx hb dJ2_set_9 rfl (lv_at hl 0 rfl) ?_
  refine lv_iload_n hx hb dJ2_set_10 rfl (lv_at hl 1 rfl) ?_
  obtain ⟨fc3, ec3, hF⟩ := gC_s hF
  obtain ⟨r3, u3, e3, hF⟩ := bnd_s hF
  have mm3 : hle u3 out.2 := (show Mo u3 _ from mo_gQ (fun x4_ => mo_sQ hle_rf (fun h5 m5 => mo_ret m5))) _ hF
  obtain ⟨mc3, ms3, hmc3, hms3⟩ := up_of (moJ2_elementData u2 a0 p1 _ e3)
  replace hc := cst_call hc hmc3 hms3
  refine h_callr (va_runV (As := [.int p1]) (rest := []) ⟨hx, hb, hml, hown, hts⟩ (mgJ2_elementData l D A u2 a0 p1 _ e3 mc3 ms3 hmc3 hms3) (cwV 1 hts (lw_V q945 q946 q947 q106 q948) rfl rfl rfl (by decide +kernel) ⟨Nat.le_of_ble_eq_true rfl, Nat.le_of_ble_eq_true rfl⟩) (h_preV hGr hr hS ec3 (by decide) (q := (RJ2, TJ2, 3)) rfl _) rfl rfl hl.1 rfl (lv_room (Nat.le_of_ble_eq_true rfl)) dJ2_set_11 ⟨(bud hc mm3 hmc hms).1, (bud hc mm3 hmc hms).2⟩) hS (fun rr uu H locs hw hr hS => ?_)
  obtain rfl : u3 = uu := (congrArg Prod.snd hw).symm
  obtain rfl : r3 = rr := (congrArg Prod.fst hw).symm
  refine lv_astore_n (lv' := [(3, .ref r3), (0, .ref a0), (1, .int p1), (2, .ref a2)]) hx hb dJ2_set_14 rfl hl (by decide) rfl (fun ls hl => ?_)
  refine lv_aload_n hx hb dJ2_set_15 rfl (lv_at hl 1 rfl) ?_
  obtain ⟨fs4, x4_, e4, f4, hF⟩ := gQ_s hF
  refine h_get (C := RJ2) (T := TJ2) (N := 3) hx hb hts in_J2 hown hGr hr e4 (by decide) rfl 1 (by decide) (hts _ q535) (fun _ h9 => h9) f4 dJ2_set_16 ?_
  refine lv_iload_n hx hb dJ2_set_19 rfl (lv_at hl 2 rfl) ?_
  refine lv_aload_n hx hb dJ2_set_20 rfl (lv_at hl 3 rfl) ?_
  obtain ⟨n5, f5, cv5, fv5, e5, ev5, lo5, ok5, kd5, g5, hF⟩ := sQ_s hF
  obtain ⟨h5, eh5⟩ : ∃ z, z = hPut u3 x4_ (.inl (2, n5, .inr (.inr (.inr (.inr (va_up f5 (p1).toNatClampNeg (some a2))))))) := ⟨_, rfl⟩
  rw [← eh5] at hF
  refine h_aastQ hx hb hGr hr hS e5 ev5 lo5 ok5 kd5 g5 dJ2_set_21 (fun H locs hr hS => ?_)
  rw [← eh5] at hr
  replace hc := cst_put hc eh5
  refine lv_aload_n hx hb dJ2_set_22 rfl (lv_at hl 0 rfl) ?_
  have bz := bud_r hc hF hmc hms
  refine W.widen (k := mc) (n := ms) bz.1 bz.2 ?_
  exact W.aret (v := .ref r3) hx hb hret (Or.inl ⟨_, rfl⟩) (Or.inr ⟨_, rfl⟩) (fun t ht hWm => ⟨⟨h5, r3, rfl, trivial, Option.some.inj hF, h_end hGr hr hS ht hWm⟩, hS.F ht⟩) hS.2.2 dJ2_set_23

def GJ2_grow (h : Hp) (a0 : Nat) (p1 : Int32) : Option (Nat × Hp) := gQ h a0 10 1 (fun x1_ => aL h x1_ (fun x2_ => if 0 < x2_ then bnd (GJ11_newLength h x2_ (p1 - x2_) (x2_ >>> (1 &&& 31))) (fun r4 u4 => gQ u4 a0 10 1 (fun x5_ => bnd (GJ13_copyOf_2 u4 x5_ r4) (fun r6 u6 => pV u6 a0 10 1 (.ref r6) (fun h7 => some (r6, h7))))) else none))
theorem moJ2_grow (h : Hp) (a0 : Nat) (p1 : Int32) : Mo h (GJ2_grow h a0 p1) := by
  unfold GJ2_grow
  exact mo_gQ (fun x1_ => mo_aL (fun x2_ => mo_ite (mo_bnd (moJ11_newLength h x2_ (p1 - x2_) (x2_ >>> (1 &&& 31))) hle_rf (fun r4 u4 m4 => mo_gQ (fun x5_ => mo_bnd (moJ13_copyOf_2 u4 x5_ r4) m4 (fun r6 u6 m6 => mo_pV m6 (fun h7 m7 => mo_ret m7))))) (mo_no)))
set_option maxHeartbeats 4000000 in
set_option maxRecDepth 100000 in
theorem mgJ2_grow (l : Launch) (D : HD) (A : Nat → Prop) (h : Hp) (a0 : Nat) (p1 : Int32) (out : Nat × Hp) (hF : GJ2_grow h a0 p1 = some out) (mc ms : Nat) (hmc : hCc out.2 = hCc h + mc) (hms : hSl out.2 = hSl h + ms) : Met l yJ2_grow (ws_ yJ2_grow cJ2_grow 4 (some (.array (.object "java/lang/Object")))) ({ frames := 3, cells := mc, slots := ms, locals := 124 }) (va_Pc [.ref a0, .int p1] (hW D A h)) (va_Qr (fun _ : Hp => True) (fun u r t => (r, u) = out ∧ hW D A u t) A) mc ms A := by
  refine va_MetF (cc := cJ2_grow) (maxL := 4) (ret := (some (.array (.object "java/lang/Object")))) (by decide +kernel) rfl ?_
  intro p e s m args below meth c s₁ B hml hv
  obtain ⟨rfl, hr, hGr⟩ := hv
  have hx := B.exec
  have hb := B.bytes
  have hret := B.returns
  have hts := atoms_spec (ws := (ws_ yJ2_grow cJ2_grow 4 (some (.array (.object "java/lang/Object"))))) B.pre
  have hts : ∀ w ∈ lw_all, w.before _ s = true := fun w h => hts w (List.mem_cons_of_mem _ h)
  have hown : s.vm.findClass RJ2 = some m.cls := findClass_of_methodNamed B.named
  have hlocks := B.notSynchronized
  have hS : va_S A s.heap s.heap [] := va_S.rf
  have hc : cst h 0 0 h := cst_0
  have hl := lv_entry ([.ref a0, .int p1]) (n := 4) (Nat.le_of_ble_eq_true rfl)
  rw [lg_entry_eq]
  generalize (lg_sl ([.ref a0, .int p1]) ++ List.replicate (4 - (lg_sl ([.ref a0, .int p1])).length) Slot.unset).toArray = ls at hl ⊢
  have hl : lv_has ls 4 [(0, .ref a0), (1, .int p1)] := hl
  unfold GJ2_grow at hF
  refine lv_aload_n hx hb dJ2_grow_0 rfl (lv_at hl 0 rfl) ?_
  obtain ⟨fs1, x1_, e1, f1, hF⟩ := gQ_s hF
  refine h_get (C := RJ2) (T := TJ2) (N := 3) hx hb hts in_J2 hown hGr hr e1 (by decide) rfl 1 (by decide) (hts _ q535) (fun _ h9 => h9) f1 dJ2_grow_1 ?_
  obtain ⟨k2, y2, e2, g2, hF⟩ := aL_s hF
  obtain ⟨x2_, ex2⟩ : ∃ z, z = Int32.ofNat y2.1 := ⟨_, rfl⟩
  rw [← ex2] at hF
  refine h_alen hx hb hGr hr e2 g2 dJ2_grow_4 ?_
  rw [← ex2]
  refine lv_istore_n (lv' := [(2, .int x2_), (0, .ref a0), (1, .int p1)]) hx hb dJ2_grow_5 rfl hl (by decide) rfl (fun ls hl => ?_)
  refine lv_iload_n hx hb dJ2_grow_6 rfl (lv_at hl 0 rfl) ?_
  refine lv_if_gt (tgt := 20) hx hb dJ2_grow_7 (by decide) (fun c3 => ?_) (fun c3 => ?_)
  · replace hF := it_t c3 hF
    refine lv_iload_n hx hb dJ2_grow_20 rfl (lv_at hl 0 rfl) ?_
    refine lv_iload_n hx hb dJ2_grow_21 rfl (lv_at hl 2 rfl) ?_
    refine lv_iload_n hx hb dJ2_grow_22 rfl (lv_at hl 0 rfl) ?_
    refine lv_isub hx hb dJ2_grow_23 ?_
    refine lv_iload_n hx hb dJ2_grow_24 rfl (lv_at hl 0 rfl) ?_
    refine lv_iconst (v := 1) hx hb dJ2_grow_25 (by decide) ?_
    refine lv_ishr hx hb dJ2_grow_26 ?_
    obtain ⟨r4, u4, e4, hF⟩ := bnd_s hF
    have mm4 : hle u4 out.2 := (show Mo u4 _ from mo_gQ (fun x5_ => mo_bnd (moJ13_copyOf_2 u4 x5_ r4) hle_rf (fun r6 u6 m6 => mo_pV m6 (fun h7 m7 => mo_ret m7)))) _ hF
    obtain ⟨mc4, ms4, hmc4, hms4⟩ := up_of (moJ11_newLength h x2_ (p1 - x2_) (x2_ >>> (1 &&& 31)) _ e4)
    replace hc := cst_call hc hmc4 hms4
    refine h_calli (va_runS (As := [.int x2_, .int (p1 - x2_), .int (x2_ >>> (1 &&& 31))]) (rest := []) ⟨hx, hb, hml, hown, hts⟩ (mgJ11_newLength l D A h x2_ (p1 - x2_) (x2_ >>> (1 &&& 31)) _ e4 mc4 ms4 hmc4 hms4) (va_cwS 3 hts (lw_S q758 q315 q115 q316) rfl rfl rfl (by decide +kernel) ⟨Nat.le_of_ble_eq_true rfl, Nat.le_of_ble_eq_true rfl⟩) (h_preS hGr hr hS _) rfl rfl hl.1 rfl (lv_room (Nat.le_of_ble_eq_true rfl)) dJ2_grow_27 ⟨(bud hc mm4 hmc hms).1, (bud hc mm4 hmc hms).2⟩) hS (fun rr uu H locs hw hr hS => ?_)
    obtain rfl : u4 = uu := (congrArg Prod.snd hw).symm
    obtain rfl : r4 = rr := (congrArg Prod.fst hw).symm
    refine lv_istore_n (lv' := [(3, .int r4), (2, .int x2_), (0, .ref a0), (1, .int p1)]) hx hb dJ2_grow_30 rfl hl (by decide) rfl (fun ls hl => ?_)
    refine lv_aload_n hx hb dJ2_grow_31 rfl (lv_at hl 2 rfl) ?_
    refine lv_aload_n hx hb dJ2_grow_32 rfl (lv_at hl 2 rfl) ?_
    obtain ⟨fs5, x5_, e5, f5, hF⟩ := gQ_s hF
    refine h_get (C := RJ2) (T := TJ2) (N := 3) hx hb hts in_J2 hown hGr hr e5 (by decide) rfl 1 (by decide) (hts _ q535) (fun _ h9 => h9) f5 dJ2_grow_33 ?_
    refine lv_iload_n hx hb dJ2_grow_36 rfl (lv_at hl 0 rfl) ?_
    obtain ⟨r6, u6, e6, hF⟩ := bnd_s hF
    have mm6 : hle u6 out.2 := (show Mo u6 _ from mo_pV hle_rf (fun h7 m7 => mo_ret m7)) _ hF
    obtain ⟨mc6, ms6, hmc6, hms6⟩ := up_of (moJ13_copyOf_2 u4 x5_ r4 _ e6)
    replace hc := cst_call hc hmc6 hms6
    refine h_callr (va_runS (As := [.ref x5_, .int r4]) (rest := [.ref a0]) ⟨hx, hb, hml, hown, hts⟩ (mgJ13_copyOf_2 l D A u4 x5_ r4 _ e6 mc6 ms6 hmc6 hms6) (va_cwS 2 hts (lw_S q716 q717 q117 q718) rfl rfl rfl (by decide +kernel) ⟨Nat.le_of_ble_eq_true rfl, Nat.le_of_ble_eq_true rfl⟩) (h_preS hGr hr hS _) rfl rfl hl.1 rfl (lv_room (Nat.le_of_ble_eq_true rfl)) dJ2_grow_37 ⟨(bud hc mm6 hmc hms).1, (bud hc mm6 hmc hms).2⟩) hS (fun rr uu H locs hw hr hS => ?_)
    obtain rfl : u6 = uu := (congrArg Prod.snd hw).symm
    obtain rfl : r6 = rr := (congrArg Prod.fst hw).symm
    refine lv_dup_x1 hx hb dJ2_grow_40 rfl rfl ?_
    obtain ⟨fs7, e7, k7, lo7, hF⟩ := pV_s hF
    obtain ⟨h7, eh7⟩ : ∃ z, z = hPut u6 a0 (.inr (10, fs7.set 1 (.ref r6))) := ⟨_, rfl⟩
    rw [← eh7] at hF
    refine h_put (C := RJ2) (T := TJ2) (N := 3) hx hb hts in_J2 tyJ2 tyJ2_ok nmJ2 hown hGr hr hS e7 (by decide) rfl 1 (by decide) (hts _ q535) (fun _ h9 => h9) rfl (tyJ2_ok 1 (by decide)) rfl rfl k7 lo7 dJ2_grow_41 (fun H locs hr hS => ?_)
    rw [← eh7] at hr
    replace hc := cst_put hc eh7
    have bz := bud_r hc hF hmc hms
    refine W.widen (k := mc) (n := ms) bz.1 bz.2 ?_
    exact W.aret (v := .ref r6) hx hb hret (Or.inr ⟨_, rfl⟩) (Or.inr ⟨_, rfl⟩) (fun t ht hWm => ⟨⟨h7, r6, rfl, trivial, Option.some.inj hF, h_end hGr hr hS ht hWm⟩, hS.F ht⟩) hS.2.2 dJ2_grow_44
  · replace hF := it_f c3 hF
    exact nomatch hF

def GJ2_grow_2 (h : Hp) (a0 : Nat) : Option (Nat × Hp) := gI h a0 10 2 (fun x1_ => gC h a0 10 (bnd (GJ2_grow h a0 (x1_ + 1)) (fun r2 u2 => some (r2, u2))))
theorem moJ2_grow_2 (h : Hp) (a0 : Nat) : Mo h (GJ2_grow_2 h a0) := by
  unfold GJ2_grow_2
  exact mo_gI (fun x1_ => mo_gC (mo_bnd (moJ2_grow h a0 (x1_ + 1)) hle_rf (fun r2 u2 m2 => mo_ret m2)))
set_option maxHeartbeats 4000000 in
set_option maxRecDepth 100000 in
theorem mgJ2_grow_2 (l : Launch) (D : HD) (A : Nat → Prop) (h : Hp) (a0 : Nat) (out : Nat × Hp) (hF : GJ2_grow_2 h a0 = some out) (mc ms : Nat) (hmc : hCc out.2 = hCc h + mc) (hms : hSl out.2 = hSl h + ms) : Met l yJ2_grow_2 (ws_ yJ2_grow_2 cJ2_grow_2 1 (some (.array (.object "java/lang/Object")))) ({ frames := 4, cells := mc, slots := ms, locals := 147 }) (va_Pc [.ref a0] (hW D A h)) (va_Qr (fun _ : Hp => True) (fun u r t => (r, u) = out ∧ hW D A u t) A) mc ms A := by
  refine va_MetF (cc := cJ2_grow_2) (maxL := 1) (ret := (some (.array (.object "java/lang/Object")))) (by decide +kernel) rfl ?_
  intro p e s m args below meth c s₁ B hml hv
  obtain ⟨rfl, hr, hGr⟩ := hv
  have hx := B.exec
  have hb := B.bytes
  have hret := B.returns
  have hts := atoms_spec (ws := (ws_ yJ2_grow_2 cJ2_grow_2 1 (some (.array (.object "java/lang/Object"))))) B.pre
  have hts : ∀ w ∈ lw_all, w.before _ s = true := fun w h => hts w (List.mem_cons_of_mem _ h)
  have hown : s.vm.findClass RJ2 = some m.cls := findClass_of_methodNamed B.named
  have hlocks := B.notSynchronized
  have hS : va_S A s.heap s.heap [] := va_S.rf
  have hc : cst h 0 0 h := cst_0
  have hl := lv_entry ([.ref a0]) (n := 1) (Nat.le_of_ble_eq_true rfl)
  rw [lg_entry_eq]
  generalize (lg_sl ([.ref a0]) ++ List.replicate (1 - (lg_sl ([.ref a0])).length) Slot.unset).toArray = ls at hl ⊢
  have hl : lv_has ls 1 [(0, .ref a0)] := hl
  unfold GJ2_grow_2 at hF
  refine lv_aload_n hx hb dJ2_grow_2_0 rfl (lv_at hl 0 rfl) ?_
  refine lv_aload_n hx hb dJ2_grow_2_1 rfl (lv_at hl 0 rfl) ?_
  obtain ⟨fs1, x1_, e1, f1, hF⟩ := gI_s hF
  refine h_get (C := RJ2) (T := TJ2) (N := 3) hx hb hts in_J2 hown hGr hr e1 (by decide) rfl 2 (by decide) (hts _ q536) (fun _ h9 => h9) f1 dJ2_grow_2_2 ?_
  refine lv_iconst (v := 1) hx hb dJ2_grow_2_5 (by decide) ?_
  refine lv_iadd hx hb dJ2_grow_2_6 ?_
  obtain ⟨fc2, ec2, hF⟩ := gC_s hF
  obtain ⟨r2, u2, e2, hF⟩ := bnd_s hF
  have mm2 : hle u2 out.2 := (show Mo u2 _ from mo_ret hle_rf) _ hF
  obtain ⟨mc2, ms2, hmc2, hms2⟩ := up_of (moJ2_grow h a0 (x1_ + 1) _ e2)
  replace hc := cst_call hc hmc2 hms2
  refine h_callr (va_runV (As := [.int (x1_ + 1)]) (rest := []) ⟨hx, hb, hml, hown, hts⟩ (mgJ2_grow l D A h a0 (x1_ + 1) _ e2 mc2 ms2 hmc2 hms2) (cwV 1 hts (lw_V q752 q754 qs4 q106 q755) rfl rfl rfl (by decide +kernel) ⟨Nat.le_of_ble_eq_true rfl, Nat.le_of_ble_eq_true rfl⟩) (h_preV hGr hr hS ec2 (by decide) (q := (RJ2, TJ2, 3)) rfl _) rfl rfl hl.1 rfl (lv_room (Nat.le_of_ble_eq_true rfl)) dJ2_grow_2_7 ⟨(bud hc mm2 hmc hms).1, (bud hc mm2 hmc hms).2⟩) hS (fun rr uu H locs hw hr hS => ?_)
  obtain rfl : u2 = uu := (congrArg Prod.snd hw).symm
  obtain rfl : r2 = rr := (congrArg Prod.fst hw).symm
  have bz := bud_r hc hF hmc hms
  refine W.widen (k := mc) (n := ms) bz.1 bz.2 ?_
  exact W.aret (v := .ref r2) hx hb hret (Or.inr ⟨_, rfl⟩) (Or.inr ⟨_, rfl⟩) (fun t ht hWm => ⟨⟨u2, r2, rfl, trivial, Option.some.inj hF, h_end hGr hr hS ht hWm⟩, hS.F ht⟩) hS.2.2 dJ2_grow_2_10

def GJ2_add_2 (h : Hp) (a0 : Nat) (a1 : Nat) (a2 : Nat) (p3 : Int32) : Option (Int32 × Hp) := aL h a2 (fun x1_ => if p3 = x1_ then gC h a0 10 (bnd (GJ2_grow_2 h a0) (fun r5 u5 => sQ u5 r5 2 p3 a1 (fun h6 => pV h6 a0 10 2 (.int (p3 + 1)) (fun h7 => some (0, h7))))) else sQ h a2 2 p3 a1 (fun h3 => pV h3 a0 10 2 (.int (p3 + 1)) (fun h4 => some (0, h4))))
theorem moJ2_add_2 (h : Hp) (a0 : Nat) (a1 : Nat) (a2 : Nat) (p3 : Int32) : Mo h (GJ2_add_2 h a0 a1 a2 p3) := by
  unfold GJ2_add_2
  exact mo_aL (fun x1_ => mo_ite (mo_gC (mo_bnd (moJ2_grow_2 h a0) hle_rf (fun r5 u5 m5 => mo_sQ m5 (fun h6 m6 => mo_pV m6 (fun h7 m7 => mo_ret m7))))) (mo_sQ hle_rf (fun h3 m3 => mo_pV m3 (fun h4 m4 => mo_ret m4))))
set_option maxHeartbeats 4000000 in
set_option maxRecDepth 100000 in
theorem mgJ2_add_2 (l : Launch) (D : HD) (A : Nat → Prop) (h : Hp) (a0 : Nat) (a1 : Nat) (a2 : Nat) (p3 : Int32) (out : Int32 × Hp) (hF : GJ2_add_2 h a0 a1 a2 p3 = some out) (mc ms : Nat) (hmc : hCc out.2 = hCc h + mc) (hms : hSl out.2 = hSl h + ms) : Met l yJ2_add_2 (ws_ yJ2_add_2 cJ2_add_2 4 none) ({ frames := 5, cells := mc, slots := ms, locals := 167 }) (va_Pc [.ref a0, .ref a1, .ref a2, .int p3] (hW D A h)) (va_Qv (fun u => (0, u) = out) (hW D A) A) mc ms A := by
  refine va_MetF (cc := cJ2_add_2) (maxL := 4) (ret := none) (by decide +kernel) rfl ?_
  intro p e s m args below meth c s₁ B hml hv
  obtain ⟨rfl, hr, hGr⟩ := hv
  have hx := B.exec
  have hb := B.bytes
  have hret := B.returns
  have hts := atoms_spec (ws := (ws_ yJ2_add_2 cJ2_add_2 4 none)) B.pre
  have hts : ∀ w ∈ lw_all, w.before _ s = true := fun w h => hts w (List.mem_cons_of_mem _ h)
  have hown : s.vm.findClass RJ2 = some m.cls := findClass_of_methodNamed B.named
  have hlocks := B.notSynchronized
  have hS : va_S A s.heap s.heap [] := va_S.rf
  have hc : cst h 0 0 h := cst_0
  have hl := lv_entry ([.ref a0, .ref a1, .ref a2, .int p3]) (n := 4) (Nat.le_of_ble_eq_true rfl)
  rw [lg_entry_eq]
  generalize (lg_sl ([.ref a0, .ref a1, .ref a2, .int p3]) ++ List.replicate (4 - (lg_sl ([.ref a0, .ref a1, .ref a2, .int p3])).length) Slot.unset).toArray = ls at hl ⊢
  have hl : lv_has ls 4 [(0, .ref a0), (1, .ref a1), (2, .ref a2), (3, .int p3)] := hl
  unfold GJ2_add_2 at hF
  refine lv_iload_n hx hb dJ2_add_2_0 rfl (lv_at hl 3 rfl) ?_
  refine lv_aload_n hx hb dJ2_add_2_1 rfl (lv_at hl 2 rfl) ?_
  obtain ⟨k1, y1, e1, g1, hF⟩ := aL_s hF
  obtain ⟨x1_, ex1⟩ : ∃ z, z = Int32.ofNat y1.1 := ⟨_, rfl⟩
  rw [← ex1] at hF
  refine h_alen hx hb hGr hr e1 g1 dJ2_add_2_2 ?_
  rw [← ex1]
  refine lv_icmp_ne (tgt := 11) hx hb dJ2_add_2_3 (by decide) (fun c2 => ?_) (fun c2 => ?_)
  · replace hF := it_f c2 hF
    refine lv_aload_n hx hb dJ2_add_2_11 rfl (lv_at hl 2 rfl) ?_
    refine lv_iload_n hx hb dJ2_add_2_12 rfl (lv_at hl 3 rfl) ?_
    refine lv_aload_n hx hb dJ2_add_2_13 rfl (lv_at hl 1 rfl) ?_
    obtain ⟨n3, f3, cv3, fv3, e3, ev3, lo3, ok3, kd3, g3, hF⟩ := sQ_s hF
    obtain ⟨h3, eh3⟩ : ∃ z, z = hPut h a2 (.inl (2, n3, .inr (.inr (.inr (.inr (va_up f3 (p3).toNatClampNeg (some a1))))))) := ⟨_, rfl⟩
    rw [← eh3] at hF
    refine h_aastQ hx hb hGr hr hS e3 ev3 lo3 ok3 kd3 g3 dJ2_add_2_14 (fun H locs hr hS => ?_)
    rw [← eh3] at hr
    replace hc := cst_put hc eh3
    refine lv_aload_n hx hb dJ2_add_2_15 rfl (lv_at hl 0 rfl) ?_
    refine lv_iload_n hx hb dJ2_add_2_16 rfl (lv_at hl 3 rfl) ?_
    refine lv_iconst (v := 1) hx hb dJ2_add_2_17 (by decide) ?_
    refine lv_iadd hx hb dJ2_add_2_18 ?_
    obtain ⟨fs4, e4, k4, lo4, hF⟩ := pV_s hF
    obtain ⟨h4, eh4⟩ : ∃ z, z = hPut h3 a0 (.inr (10, fs4.set 2 (.int (p3 + 1)))) := ⟨_, rfl⟩
    rw [← eh4] at hF
    refine h_put (C := RJ2) (T := TJ2) (N := 3) hx hb hts in_J2 tyJ2 tyJ2_ok nmJ2 hown hGr hr hS e4 (by decide) rfl 2 (by decide) (hts _ q536) (fun _ h9 => h9) rfl (tyJ2_ok 2 (by decide)) rfl rfl k4 lo4 dJ2_add_2_19 (fun H locs hr hS => ?_)
    rw [← eh4] at hr
    replace hc := cst_put hc eh4
    have bz := bud_r hc hF hmc hms
    refine W.widen (k := mc) (n := ms) bz.1 bz.2 ?_
    exact W.vret hx hb hret (fun t ht hWm => ⟨⟨h4, rfl, Option.some.inj hF, h_end hGr hr hS ht hWm⟩, hS.F ht⟩) hS.2.2 dJ2_add_2_22
  · replace hF := it_t c2 hF
    refine lv_aload_n hx hb dJ2_add_2_6 rfl (lv_at hl 0 rfl) ?_
    obtain ⟨fc5, ec5, hF⟩ := gC_s hF
    obtain ⟨r5, u5, e5, hF⟩ := bnd_s hF
    have mm5 : hle u5 out.2 := (show Mo u5 _ from mo_sQ hle_rf (fun h6 m6 => mo_pV m6 (fun h7 m7 => mo_ret m7))) _ hF
    obtain ⟨mc5, ms5, hmc5, hms5⟩ := up_of (moJ2_grow_2 h a0 _ e5)
    replace hc := cst_call hc hmc5 hms5
    refine h_callr (va_runV (As := []) (rest := []) ⟨hx, hb, hml, hown, hts⟩ (mgJ2_grow_2 l D A h a0 _ e5 mc5 ms5 hmc5 hms5) (cwV 0 hts (lw_V q910 q912 qs10 q106 q913) rfl rfl rfl (by decide +kernel) ⟨Nat.le_of_ble_eq_true rfl, Nat.le_of_ble_eq_true rfl⟩) (h_preV hGr hr hS ec5 (by decide) (q := (RJ2, TJ2, 3)) rfl _) rfl rfl hl.1 rfl (lv_room (Nat.le_of_ble_eq_true rfl)) dJ2_add_2_7 ⟨(bud hc mm5 hmc hms).1, (bud hc mm5 hmc hms).2⟩) hS (fun rr uu H locs hw hr hS => ?_)
    obtain rfl : u5 = uu := (congrArg Prod.snd hw).symm
    obtain rfl : r5 = rr := (congrArg Prod.fst hw).symm
    refine lv_astore_n (lv' := [(2, .ref r5), (0, .ref a0), (1, .ref a1), (3, .int p3)]) hx hb dJ2_add_2_10 rfl hl (by decide) rfl (fun ls hl => ?_)
    refine lv_aload_n hx hb dJ2_add_2_11 rfl (lv_at hl 0 rfl) ?_
    refine lv_iload_n hx hb dJ2_add_2_12 rfl (lv_at hl 3 rfl) ?_
    refine lv_aload_n hx hb dJ2_add_2_13 rfl (lv_at hl 2 rfl) ?_
    obtain ⟨n6, f6, cv6, fv6, e6, ev6, lo6, ok6, kd6, g6, hF⟩ := sQ_s hF
    obtain ⟨h6, eh6⟩ : ∃ z, z = hPut u5 r5 (.inl (2, n6, .inr (.inr (.inr (.inr (va_up f6 (p3).toNatClampNeg (some a1))))))) := ⟨_, rfl⟩
    rw [← eh6] at hF
    refine h_aastQ hx hb hGr hr hS e6 ev6 lo6 ok6 kd6 g6 dJ2_add_2_14 (fun H locs hr hS => ?_)
    rw [← eh6] at hr
    replace hc := cst_put hc eh6
    refine lv_aload_n hx hb dJ2_add_2_15 rfl (lv_at hl 1 rfl) ?_
    refine lv_iload_n hx hb dJ2_add_2_16 rfl (lv_at hl 3 rfl) ?_
    refine lv_iconst (v := 1) hx hb dJ2_add_2_17 (by decide) ?_
    refine lv_iadd hx hb dJ2_add_2_18 ?_
    obtain ⟨fs7, e7, k7, lo7, hF⟩ := pV_s hF
    obtain ⟨h7, eh7⟩ : ∃ z, z = hPut h6 a0 (.inr (10, fs7.set 2 (.int (p3 + 1)))) := ⟨_, rfl⟩
    rw [← eh7] at hF
    refine h_put (C := RJ2) (T := TJ2) (N := 3) hx hb hts in_J2 tyJ2 tyJ2_ok nmJ2 hown hGr hr hS e7 (by decide) rfl 2 (by decide) (hts _ q536) (fun _ h9 => h9) rfl (tyJ2_ok 2 (by decide)) rfl rfl k7 lo7 dJ2_add_2_19 (fun H locs hr hS => ?_)
    rw [← eh7] at hr
    replace hc := cst_put hc eh7
    have bz := bud_r hc hF hmc hms
    refine W.widen (k := mc) (n := ms) bz.1 bz.2 ?_
    exact W.vret hx hb hret (fun t ht hWm => ⟨⟨h7, rfl, Option.some.inj hF, h_end hGr hr hS ht hWm⟩, hS.F ht⟩) hS.2.2 dJ2_add_2_22

def GJ2_add (h : Hp) (a0 : Nat) (a1 : Nat) : Option (Int32 × Hp) := gI h a0 10 0 (fun x1_ => pV h a0 10 0 (.int (x1_ + 1)) (fun h2 => gQ h2 a0 10 1 (fun x3_ => gI h2 a0 10 2 (fun x4_ => gC h2 a0 10 (bnd (GJ2_add_2 h2 a0 a1 x3_ x4_) (fun r5 u5 => some ((1 : Int32), u5)))))))
theorem moJ2_add (h : Hp) (a0 : Nat) (a1 : Nat) : Mo h (GJ2_add h a0 a1) := by
  unfold GJ2_add
  exact mo_gI (fun x1_ => mo_pV hle_rf (fun h2 m2 => mo_gQ (fun x3_ => mo_gI (fun x4_ => mo_gC (mo_bnd (moJ2_add_2 h2 a0 a1 x3_ x4_) m2 (fun r5 u5 m5 => mo_ret m5))))))
set_option maxHeartbeats 4000000 in
set_option maxRecDepth 100000 in
theorem mgJ2_add (l : Launch) (D : HD) (A : Nat → Prop) (h : Hp) (a0 : Nat) (a1 : Nat) (out : Int32 × Hp) (hF : GJ2_add h a0 a1 = some out) (mc ms : Nat) (hmc : hCc out.2 = hCc h + mc) (hms : hSl out.2 = hSl h + ms) : Met l yJ2_add (ws_ yJ2_add cJ2_add 2 (some .boolean)) ({ frames := 6, cells := mc, slots := ms, locals := 190 }) (va_Pc [.ref a0, .ref a1] (hW D A h)) (va_Qi (fun r u => (r, u) = out) (hW D A) A) mc ms A := by
  refine va_MetF (cc := cJ2_add) (maxL := 2) (ret := (some .boolean)) (by decide +kernel) rfl ?_
  intro p e s m args below meth c s₁ B hml hv
  obtain ⟨rfl, hr, hGr⟩ := hv
  have hx := B.exec
  have hb := B.bytes
  have hret := B.returns
  have hts := atoms_spec (ws := (ws_ yJ2_add cJ2_add 2 (some .boolean))) B.pre
  have hts : ∀ w ∈ lw_all, w.before _ s = true := fun w h => hts w (List.mem_cons_of_mem _ h)
  have hown : s.vm.findClass RJ2 = some m.cls := findClass_of_methodNamed B.named
  have hlocks := B.notSynchronized
  have hS : va_S A s.heap s.heap [] := va_S.rf
  have hc : cst h 0 0 h := cst_0
  have hl := lv_entry ([.ref a0, .ref a1]) (n := 2) (Nat.le_of_ble_eq_true rfl)
  rw [lg_entry_eq]
  generalize (lg_sl ([.ref a0, .ref a1]) ++ List.replicate (2 - (lg_sl ([.ref a0, .ref a1])).length) Slot.unset).toArray = ls at hl ⊢
  have hl : lv_has ls 2 [(0, .ref a0), (1, .ref a1)] := hl
  unfold GJ2_add at hF
  refine lv_aload_n hx hb dJ2_add_0 rfl (lv_at hl 0 rfl) ?_
  refine lv_dup hx hb dJ2_add_1 rfl ?_
  obtain ⟨fs1, x1_, e1, f1, hF⟩ := gI_s hF
  refine h_get (C := RJ2) (T := TJ2) (N := 3) hx hb hts in_J2 hown hGr hr e1 (by decide) rfl 0 (by decide) (hts _ q538) (u_same (hts _ q539)) f1 dJ2_add_2 ?_
  refine lv_iconst (v := 1) hx hb dJ2_add_5 (by decide) ?_
  refine lv_iadd hx hb dJ2_add_6 ?_
  obtain ⟨fs2, e2, k2, lo2, hF⟩ := pV_s hF
  obtain ⟨h2, eh2⟩ : ∃ z, z = hPut h a0 (.inr (10, fs2.set 0 (.int (x1_ + 1)))) := ⟨_, rfl⟩
  rw [← eh2] at hF
  refine h_put (C := RJ2) (T := TJ2) (N := 3) hx hb hts in_J2 tyJ2 tyJ2_ok nmJ2 hown hGr hr hS e2 (by decide) rfl 0 (by decide) (hts _ q538) (u_same (hts _ q539)) rfl (tyJ2_ok 0 (by decide)) rfl rfl k2 lo2 dJ2_add_7 (fun H locs hr hS => ?_)
  rw [← eh2] at hr
  replace hc := cst_put hc eh2
  refine lv_aload_n hx hb dJ2_add_10 rfl (lv_at hl 0 rfl) ?_
  refine lv_aload_n hx hb dJ2_add_11 rfl (lv_at hl 1 rfl) ?_
  refine lv_aload_n hx hb dJ2_add_12 rfl (lv_at hl 0 rfl) ?_
  obtain ⟨fs3, x3_, e3, f3, hF⟩ := gQ_s hF
  refine h_get (C := RJ2) (T := TJ2) (N := 3) hx hb hts in_J2 hown hGr hr e3 (by decide) rfl 1 (by decide) (hts _ q535) (fun _ h9 => h9) f3 dJ2_add_13 ?_
  refine lv_aload_n hx hb dJ2_add_16 rfl (lv_at hl 0 rfl) ?_
  obtain ⟨fs4, x4_, e4, f4, hF⟩ := gI_s hF
  refine h_get (C := RJ2) (T := TJ2) (N := 3) hx hb hts in_J2 hown hGr hr e4 (by decide) rfl 2 (by decide) (hts _ q536) (fun _ h9 => h9) f4 dJ2_add_17 ?_
  obtain ⟨fc5, ec5, hF⟩ := gC_s hF
  obtain ⟨r5, u5, e5, hF⟩ := bnd_s hF
  have mm5 : hle u5 out.2 := (show Mo u5 _ from mo_ret hle_rf) _ hF
  obtain ⟨mc5, ms5, hmc5, hms5⟩ := up_of (moJ2_add_2 h2 a0 a1 x3_ x4_ _ e5)
  replace hc := cst_call hc hmc5 hms5
  refine h_callv (va_runV (As := [.ref a1, .ref x3_, .int x4_]) (rest := []) ⟨hx, hb, hml, hown, hts⟩ (mgJ2_add_2 l D A h2 a0 a1 x3_ x4_ _ e5 mc5 ms5 hmc5 hms5) (cwV 3 hts (lw_V q906 q908 qs9 q106 q909) rfl rfl rfl (by decide +kernel) ⟨Nat.le_of_ble_eq_true rfl, Nat.le_of_ble_eq_true rfl⟩) (h_preV hGr hr hS ec5 (by decide) (q := (RJ2, TJ2, 3)) rfl _) rfl rfl hl.1 rfl (lv_room (Nat.le_of_ble_eq_true rfl)) dJ2_add_20 ⟨(bud hc mm5 hmc hms).1, (bud hc mm5 hmc hms).2⟩) hS (fun uu H locs hw hr hS => ?_)
  obtain rfl : u5 = uu := (congrArg Prod.snd hw).symm
  refine lv_iconst (v := 1) hx hb dJ2_add_23 (by decide) ?_
  have bz := bud_r hc hF hmc hms
  refine W.widen (k := mc) (n := ms) bz.1 bz.2 ?_
  exact W.zret (v := (1 : Int32)) hx hb hret rfl (fun t ht hWm => ⟨⟨(1 : Int32), u5, rfl, Option.some.inj hF, h_end hGr hr hS ht hWm⟩, hS.F ht⟩) hS.2.2 dJ2_add_24

def GJ2_toArray (h : Hp) (a0 : Nat) : Option (Nat × Hp) := gQ h a0 10 1 (fun x1_ => gI h a0 10 2 (fun x2_ => bnd (GJ13_copyOf_2 h x1_ x2_) (fun r3 u3 => some (r3, u3))))
theorem moJ2_toArray (h : Hp) (a0 : Nat) : Mo h (GJ2_toArray h a0) := by
  unfold GJ2_toArray
  exact mo_gQ (fun x1_ => mo_gI (fun x2_ => mo_bnd (moJ13_copyOf_2 h x1_ x2_) hle_rf (fun r3 u3 m3 => mo_ret m3)))
set_option maxHeartbeats 4000000 in
set_option maxRecDepth 100000 in
theorem mgJ2_toArray (l : Launch) (D : HD) (A : Nat → Prop) (h : Hp) (a0 : Nat) (out : Nat × Hp) (hF : GJ2_toArray h a0 = some out) (mc ms : Nat) (hmc : hCc out.2 = hCc h + mc) (hms : hSl out.2 = hSl h + ms) : Met l yJ2_toArray (ws_ yJ2_toArray cJ2_toArray 1 (some (.array (.object "java/lang/Object")))) ({ frames := 3, cells := mc, slots := ms, locals := 124 }) (va_Pc [.ref a0] (hW D A h)) (va_Qr (fun _ : Hp => True) (fun u r t => (r, u) = out ∧ hW D A u t) A) mc ms A := by
  refine va_MetF (cc := cJ2_toArray) (maxL := 1) (ret := (some (.array (.object "java/lang/Object")))) (by decide +kernel) rfl ?_
  intro p e s m args below meth c s₁ B hml hv
  obtain ⟨rfl, hr, hGr⟩ := hv
  have hx := B.exec
  have hb := B.bytes
  have hret := B.returns
  have hts := atoms_spec (ws := (ws_ yJ2_toArray cJ2_toArray 1 (some (.array (.object "java/lang/Object"))))) B.pre
  have hts : ∀ w ∈ lw_all, w.before _ s = true := fun w h => hts w (List.mem_cons_of_mem _ h)
  have hown : s.vm.findClass RJ2 = some m.cls := findClass_of_methodNamed B.named
  have hlocks := B.notSynchronized
  have hS : va_S A s.heap s.heap [] := va_S.rf
  have hc : cst h 0 0 h := cst_0
  have hl := lv_entry ([.ref a0]) (n := 1) (Nat.le_of_ble_eq_true rfl)
  rw [lg_entry_eq]
  generalize (lg_sl ([.ref a0]) ++ List.replicate (1 - (lg_sl ([.ref a0])).length) Slot.unset).toArray = ls at hl ⊢
  have hl : lv_has ls 1 [(0, .ref a0)] := hl
  unfold GJ2_toArray at hF
  refine lv_aload_n hx hb dJ2_toArray_0 rfl (lv_at hl 0 rfl) ?_
  obtain ⟨fs1, x1_, e1, f1, hF⟩ := gQ_s hF
  refine h_get (C := RJ2) (T := TJ2) (N := 3) hx hb hts in_J2 hown hGr hr e1 (by decide) rfl 1 (by decide) (hts _ q535) (fun _ h9 => h9) f1 dJ2_toArray_1 ?_
  refine lv_aload_n hx hb dJ2_toArray_4 rfl (lv_at hl 0 rfl) ?_
  obtain ⟨fs2, x2_, e2, f2, hF⟩ := gI_s hF
  refine h_get (C := RJ2) (T := TJ2) (N := 3) hx hb hts in_J2 hown hGr hr e2 (by decide) rfl 2 (by decide) (hts _ q536) (fun _ h9 => h9) f2 dJ2_toArray_5 ?_
  obtain ⟨r3, u3, e3, hF⟩ := bnd_s hF
  have mm3 : hle u3 out.2 := (show Mo u3 _ from mo_ret hle_rf) _ hF
  obtain ⟨mc3, ms3, hmc3, hms3⟩ := up_of (moJ13_copyOf_2 h x1_ x2_ _ e3)
  replace hc := cst_call hc hmc3 hms3
  refine h_callr (va_runS (As := [.ref x1_, .int x2_]) (rest := []) ⟨hx, hb, hml, hown, hts⟩ (mgJ13_copyOf_2 l D A h x1_ x2_ _ e3 mc3 ms3 hmc3 hms3) (va_cwS 2 hts (lw_S q716 q717 q117 q718) rfl rfl rfl (by decide +kernel) ⟨Nat.le_of_ble_eq_true rfl, Nat.le_of_ble_eq_true rfl⟩) (h_preS hGr hr hS _) rfl rfl hl.1 rfl (lv_room (Nat.le_of_ble_eq_true rfl)) dJ2_toArray_8 ⟨(bud hc mm3 hmc hms).1, (bud hc mm3 hmc hms).2⟩) hS (fun rr uu H locs hw hr hS => ?_)
  obtain rfl : u3 = uu := (congrArg Prod.snd hw).symm
  obtain rfl : r3 = rr := (congrArg Prod.fst hw).symm
  have bz := bud_r hc hF hmc hms
  refine W.widen (k := mc) (n := ms) bz.1 bz.2 ?_
  exact W.aret (v := .ref r3) hx hb hret (Or.inr ⟨_, rfl⟩) (Or.inr ⟨_, rfl⟩) (fun t ht hWm => ⟨⟨u3, r3, rfl, trivial, Option.some.inj hF, h_end hGr hr hS ht hWm⟩, hS.F ht⟩) hS.2.2 dJ2_toArray_11

def GJ2_addAll (h : Hp) (a0 : Nat) (a1 : Nat) : Option (Int32 × Hp) := gC h a1 10 (bnd (GJ2_toArray h a1) (fun r1 u1 => gI u1 a0 10 0 (fun x2_ => pV u1 a0 10 0 (.int (x2_ + 1)) (fun h3 => aL h3 r1 (fun x4_ => if x4_ = 0 then some ((0 : Int32), h3) else gQ h3 a0 10 1 (fun x6_ => aL h3 x6_ (fun x7_ => gI h3 a0 10 2 (fun x8_ => if x4_ ≤ (x7_ - x8_) then cQ h3 r1 (0 : Int32) x6_ x8_ x4_ (fun h10 => pV h10 a0 10 2 (.int (x8_ + x4_)) (fun h11 => some ((1 : Int32), h11))) else gC h3 a0 10 (bnd (GJ2_grow h3 a0 (x8_ + x4_)) (fun r12 u12 => cQ u12 r1 (0 : Int32) r12 x8_ x4_ (fun h13 => pV h13 a0 10 2 (.int (x8_ + x4_)) (fun h14 => some ((1 : Int32), h14)))))))))))))
theorem moJ2_addAll (h : Hp) (a0 : Nat) (a1 : Nat) : Mo h (GJ2_addAll h a0 a1) := by
  unfold GJ2_addAll
  exact mo_gC (mo_bnd (moJ2_toArray h a1) hle_rf (fun r1 u1 m1 => mo_gI (fun x2_ => mo_pV m1 (fun h3 m3 => mo_aL (fun x4_ => mo_ite (mo_ret m3) (mo_gQ (fun x6_ => mo_aL (fun x7_ => mo_gI (fun x8_ => mo_ite (mo_cQ m3 (fun h10 m10 => mo_pV m10 (fun h11 m11 => mo_ret m11))) (mo_gC (mo_bnd (moJ2_grow h3 a0 (x8_ + x4_)) m3 (fun r12 u12 m12 => mo_cQ m12 (fun h13 m13 => mo_pV m13 (fun h14 m14 => mo_ret m14))))))))))))))
set_option maxHeartbeats 4000000 in
set_option maxRecDepth 100000 in
theorem mgJ2_addAll (l : Launch) (D : HD) (A : Nat → Prop) (h : Hp) (a0 : Nat) (a1 : Nat) (out : Int32 × Hp) (hF : GJ2_addAll h a0 a1 = some out) (mc ms : Nat) (hmc : hCc out.2 = hCc h + mc) (hms : hSl out.2 = hSl h + ms) : Met l yJ2_addAll (ws_ yJ2_addAll cJ2_addAll 6 (some .boolean)) ({ frames := 4, cells := mc, slots := ms, locals := 147 }) (va_Pc [.ref a0, .ref a1] (hW D A h)) (va_Qi (fun r u => (r, u) = out) (hW D A) A) mc ms A := by
  refine va_MetF (cc := cJ2_addAll) (maxL := 6) (ret := (some .boolean)) (by decide +kernel) rfl ?_
  intro p e s m args below meth c s₁ B hml hv
  obtain ⟨rfl, hr, hGr⟩ := hv
  have hx := B.exec
  have hb := B.bytes
  have hret := B.returns
  have hts := atoms_spec (ws := (ws_ yJ2_addAll cJ2_addAll 6 (some .boolean))) B.pre
  have hts : ∀ w ∈ lw_all, w.before _ s = true := fun w h => hts w (List.mem_cons_of_mem _ h)
  have hown : s.vm.findClass RJ2 = some m.cls := findClass_of_methodNamed B.named
  have hlocks := B.notSynchronized
  have hS : va_S A s.heap s.heap [] := va_S.rf
  have hc : cst h 0 0 h := cst_0
  have hl := lv_entry ([.ref a0, .ref a1]) (n := 6) (Nat.le_of_ble_eq_true rfl)
  rw [lg_entry_eq]
  generalize (lg_sl ([.ref a0, .ref a1]) ++ List.replicate (6 - (lg_sl ([.ref a0, .ref a1])).length) Slot.unset).toArray = ls at hl ⊢
  have hl : lv_has ls 6 [(0, .ref a0), (1, .ref a1)] := hl
  unfold GJ2_addAll at hF
  refine lv_aload_n hx hb dJ2_addAll_0 rfl (lv_at hl 1 rfl) ?_
  obtain ⟨fc1, ec1, hF⟩ := gC_s hF
  obtain ⟨r1, u1, e1, hF⟩ := bnd_s hF
  have mm1 : hle u1 out.2 := (show Mo u1 _ from mo_gI (fun x2_ => mo_pV hle_rf (fun h3 m3 => mo_aL (fun x4_ => mo_ite (mo_ret m3) (mo_gQ (fun x6_ => mo_aL (fun x7_ => mo_gI (fun x8_ => mo_ite (mo_cQ m3 (fun h10 m10 => mo_pV m10 (fun h11 m11 => mo_ret m11))) (mo_gC (mo_bnd (moJ2_grow h3 a0 (x8_ + x4_)) m3 (fun r12 u12 m12 => mo_cQ m12 (fun h13 m13 => mo_pV m13 (fun h14 m14 => mo_ret m14))))))))))))) _ hF
  obtain ⟨mc1, ms1, hmc1, hms1⟩ := up_of (moJ2_toArray h a1 _ e1)
  replace hc := cst_call hc hmc1 hms1
  refine h_callFr (va_runF (hGr.K.1 10 _ rfl).2 (As := []) (rest := []) ⟨hx, hb, hml, hown, hts⟩ (mgJ2_toArray l D A h a1 _ e1 mc1 ms1 hmc1 hms1) (va_cwF 0 hts (lw_app (lw_fi q690 q711 q713 q106) (lw_meth q715)) rfl rfl rfl (fw_1 hGr) (by decide +kernel) ⟨Nat.le_of_ble_eq_true rfl, Nat.le_of_ble_eq_true rfl⟩) (h_preV hGr hr hS ec1 (by decide) (q := (RJ2, TJ2, 3)) rfl _) rfl rfl hl.1 rfl (lv_room (Nat.le_of_ble_eq_true rfl)) dJ2_addAll_1 ⟨(bud hc mm1 hmc hms).1, (bud hc mm1 hmc hms).2⟩) hS (fun rr uu H locs hw hr hS => ?_)
  obtain rfl : u1 = uu := (congrArg Prod.snd hw).symm
  obtain rfl : r1 = rr := (congrArg Prod.fst hw).symm
  refine lv_astore_n (lv' := [(2, .ref r1), (0, .ref a0), (1, .ref a1)]) hx hb dJ2_addAll_6 rfl hl (by decide) rfl (fun ls hl => ?_)
  refine lv_aload_n hx hb dJ2_addAll_7 rfl (lv_at hl 1 rfl) ?_
  refine lv_dup hx hb dJ2_addAll_8 rfl ?_
  obtain ⟨fs2, x2_, e2, f2, hF⟩ := gI_s hF
  refine h_get (C := RJ2) (T := TJ2) (N := 3) hx hb hts in_J2 hown hGr hr e2 (by decide) rfl 0 (by decide) (hts _ q538) (u_same (hts _ q539)) f2 dJ2_addAll_9 ?_
  refine lv_iconst (v := 1) hx hb dJ2_addAll_12 (by decide) ?_
  refine lv_iadd hx hb dJ2_addAll_13 ?_
  obtain ⟨fs3, e3, k3, lo3, hF⟩ := pV_s hF
  obtain ⟨h3, eh3⟩ : ∃ z, z = hPut u1 a0 (.inr (10, fs3.set 0 (.int (x2_ + 1)))) := ⟨_, rfl⟩
  rw [← eh3] at hF
  refine h_put (C := RJ2) (T := TJ2) (N := 3) hx hb hts in_J2 tyJ2 tyJ2_ok nmJ2 hown hGr hr hS e3 (by decide) rfl 0 (by decide) (hts _ q538) (u_same (hts _ q539)) rfl (tyJ2_ok 0 (by decide)) rfl rfl k3 lo3 dJ2_addAll_14 (fun H locs hr hS => ?_)
  rw [← eh3] at hr
  replace hc := cst_put hc eh3
  refine lv_aload_n hx hb dJ2_addAll_17 rfl (lv_at hl 0 rfl) ?_
  obtain ⟨k4, y4, e4, g4, hF⟩ := aL_s hF
  obtain ⟨x4_, ex4⟩ : ∃ z, z = Int32.ofNat y4.1 := ⟨_, rfl⟩
  rw [← ex4] at hF
  refine h_alen hx hb hGr hr e4 g4 dJ2_addAll_18 ?_
  rw [← ex4]
  refine lv_istore_n (lv' := [(3, .int x4_), (2, .ref r1), (0, .ref a0), (1, .ref a1)]) hx hb dJ2_addAll_19 rfl hl (by decide) rfl (fun ls hl => ?_)
  refine lv_iload_n hx hb dJ2_addAll_20 rfl (lv_at hl 0 rfl) ?_
  refine lv_if_ne (tgt := 26) hx hb dJ2_addAll_21 (by decide) (fun c5 => ?_) (fun c5 => ?_)
  · replace hF := it_f c5 hF
    refine lv_iload_n hx hb dJ2_addAll_26 rfl (lv_at hl 0 rfl) ?_
    refine lv_aload_n hx hb dJ2_addAll_27 rfl (lv_at hl 2 rfl) ?_
    obtain ⟨fs6, x6_, e6, f6, hF⟩ := gQ_s hF
    refine h_get (C := RJ2) (T := TJ2) (N := 3) hx hb hts in_J2 hown hGr hr e6 (by decide) rfl 1 (by decide) (hts _ q535) (fun _ h9 => h9) f6 dJ2_addAll_28 ?_
    refine lv_dup hx hb dJ2_addAll_31 rfl ?_
    refine lv_astore (lv' := [(4, .ref x6_), (3, .int x4_), (2, .ref r1), (0, .ref a0), (1, .ref a1)]) hx hb dJ2_addAll_32 hl (by decide) rfl (fun ls hl => ?_)
    obtain ⟨k7, y7, e7, g7, hF⟩ := aL_s hF
    obtain ⟨x7_, ex7⟩ : ∃ z, z = Int32.ofNat y7.1 := ⟨_, rfl⟩
    rw [← ex7] at hF
    refine h_alen hx hb hGr hr e7 g7 dJ2_addAll_34 ?_
    rw [← ex7]
    refine lv_aload_n hx hb dJ2_addAll_35 rfl (lv_at hl 3 rfl) ?_
    obtain ⟨fs8, x8_, e8, f8, hF⟩ := gI_s hF
    refine h_get (C := RJ2) (T := TJ2) (N := 3) hx hb hts in_J2 hown hGr hr e8 (by decide) rfl 2 (by decide) (hts _ q536) (fun _ h9 => h9) f8 dJ2_addAll_36 ?_
    refine lv_dup hx hb dJ2_addAll_39 rfl ?_
    refine lv_istore (lv' := [(5, .int x8_), (4, .ref x6_), (3, .int x4_), (2, .ref r1), (0, .ref a0), (1, .ref a1)]) hx hb dJ2_addAll_40 hl (by decide) rfl (fun ls hl => ?_)
    refine lv_isub hx hb dJ2_addAll_42 ?_
    refine lv_icmp_le (tgt := 56) hx hb dJ2_addAll_43 (by decide) (fun c9 => ?_) (fun c9 => ?_)
    · replace hF := it_t c9 hF
      refine lv_aload_n hx hb dJ2_addAll_56 rfl (lv_at hl 3 rfl) ?_
      refine lv_iconst (v := 0) hx hb dJ2_addAll_57 (by decide) ?_
      refine lv_aload hx hb dJ2_addAll_58 (lv_at hl 1 rfl) ?_
      refine lv_iload hx hb dJ2_addAll_60 (lv_at hl 0 rfl) ?_
      refine lv_iload_n hx hb dJ2_addAll_62 rfl (lv_at hl 2 rfl) ?_
      obtain ⟨n10, f10, nn10, g10, ea10, e10, lo10, cp10, el10, hF⟩ := cQ_s hF
      obtain ⟨h10, eh10⟩ : ∃ z, z = hPut h3 x6_ (.inl (2, nn10, .inr (.inr (.inr (.inr (va_cpy f10 g10 ((0 : Int32)).toNatClampNeg (x8_).toNatClampNeg (x4_).toNatClampNeg)))))) := ⟨_, rfl⟩
      rw [← eh10] at hF
      refine h_copyq hx hb (by rw [hml]; exact hl.1.symm) hown (hts _ q760) (hts _ q340) (hts _ q339) (hts _ q118) hGr hr hS ea10 e10 lo10 cp10 el10 (Nat.le_of_ble_eq_true rfl) (Nat.le_of_ble_eq_true rfl) dJ2_addAll_63 (fun H locs hr hS => ?_)
      rw [← eh10] at hr
      replace hc := cst_put hc eh10
      refine lv_aload_n hx hb dJ2_addAll_66 rfl (lv_at hl 4 rfl) ?_
      refine lv_iload hx hb dJ2_addAll_67 (lv_at hl 0 rfl) ?_
      refine lv_iload_n hx hb dJ2_addAll_69 rfl (lv_at hl 2 rfl) ?_
      refine lv_iadd hx hb dJ2_addAll_70 ?_
      obtain ⟨fs11, e11, k11, lo11, hF⟩ := pV_s hF
      obtain ⟨h11, eh11⟩ : ∃ z, z = hPut h10 a0 (.inr (10, fs11.set 2 (.int (x8_ + x4_)))) := ⟨_, rfl⟩
      rw [← eh11] at hF
      refine h_put (C := RJ2) (T := TJ2) (N := 3) hx hb hts in_J2 tyJ2 tyJ2_ok nmJ2 hown hGr hr hS e11 (by decide) rfl 2 (by decide) (hts _ q536) (fun _ h9 => h9) rfl (tyJ2_ok 2 (by decide)) rfl rfl k11 lo11 dJ2_addAll_71 (fun H locs hr hS => ?_)
      rw [← eh11] at hr
      replace hc := cst_put hc eh11
      refine lv_iconst (v := 1) hx hb dJ2_addAll_74 (by decide) ?_
      have bz := bud_r hc hF hmc hms
      refine W.widen (k := mc) (n := ms) bz.1 bz.2 ?_
      exact W.zret (v := (1 : Int32)) hx hb hret rfl (fun t ht hWm => ⟨⟨(1 : Int32), h11, rfl, Option.some.inj hF, h_end hGr hr hS ht hWm⟩, hS.F ht⟩) hS.2.2 dJ2_addAll_75
    · replace hF := it_f c9 hF
      refine lv_aload_n hx hb dJ2_addAll_46 rfl (lv_at hl 4 rfl) ?_
      refine lv_iload hx hb dJ2_addAll_47 (lv_at hl 0 rfl) ?_
      refine lv_iload_n hx hb dJ2_addAll_49 rfl (lv_at hl 2 rfl) ?_
      refine lv_iadd hx hb dJ2_addAll_50 ?_
      obtain ⟨fc12, ec12, hF⟩ := gC_s hF
      obtain ⟨r12, u12, e12, hF⟩ := bnd_s hF
      have mm12 : hle u12 out.2 := (show Mo u12 _ from mo_cQ hle_rf (fun h13 m13 => mo_pV m13 (fun h14 m14 => mo_ret m14))) _ hF
      obtain ⟨mc12, ms12, hmc12, hms12⟩ := up_of (moJ2_grow h3 a0 (x8_ + x4_) _ e12)
      replace hc := cst_call hc hmc12 hms12
      refine h_callr (va_runV (As := [.int (x8_ + x4_)]) (rest := []) ⟨hx, hb, hml, hown, hts⟩ (mgJ2_grow l D A h3 a0 (x8_ + x4_) _ e12 mc12 ms12 hmc12 hms12) (cwV 1 hts (lw_V q752 q754 qs4 q106 q755) rfl rfl rfl (by decide +kernel) ⟨Nat.le_of_ble_eq_true rfl, Nat.le_of_ble_eq_true rfl⟩) (h_preV hGr hr hS ec12 (by decide) (q := (RJ2, TJ2, 3)) rfl _) rfl rfl hl.1 rfl (lv_room (Nat.le_of_ble_eq_true rfl)) dJ2_addAll_51 ⟨(bud hc mm12 hmc hms).1, (bud hc mm12 hmc hms).2⟩) hS (fun rr uu H locs hw hr hS => ?_)
      obtain rfl : u12 = uu := (congrArg Prod.snd hw).symm
      obtain rfl : r12 = rr := (congrArg Prod.fst hw).symm
      refine lv_astore (lv' := [(4, .ref r12), (5, .int x8_), (3, .int x4_), (2, .ref r1), (0, .ref a0), (1, .ref a1)]) hx hb dJ2_addAll_54 hl (by decide) rfl (fun ls hl => ?_)
      refine lv_aload_n hx hb dJ2_addAll_56 rfl (lv_at hl 3 rfl) ?_
      refine lv_iconst (v := 0) hx hb dJ2_addAll_57 (by decide) ?_
      refine lv_aload hx hb dJ2_addAll_58 (lv_at hl 0 rfl) ?_
      refine lv_iload hx hb dJ2_addAll_60 (lv_at hl 1 rfl) ?_
      refine lv_iload_n hx hb dJ2_addAll_62 rfl (lv_at hl 2 rfl) ?_
      obtain ⟨n13, f13, nn13, g13, ea13, e13, lo13, cp13, el13, hF⟩ := cQ_s hF
      obtain ⟨h13, eh13⟩ : ∃ z, z = hPut u12 r12 (.inl (2, nn13, .inr (.inr (.inr (.inr (va_cpy f13 g13 ((0 : Int32)).toNatClampNeg (x8_).toNatClampNeg (x4_).toNatClampNeg)))))) := ⟨_, rfl⟩
      rw [← eh13] at hF
      refine h_copyq hx hb (by rw [hml]; exact hl.1.symm) hown (hts _ q760) (hts _ q340) (hts _ q339) (hts _ q118) hGr hr hS ea13 e13 lo13 cp13 el13 (Nat.le_of_ble_eq_true rfl) (Nat.le_of_ble_eq_true rfl) dJ2_addAll_63 (fun H locs hr hS => ?_)
      rw [← eh13] at hr
      replace hc := cst_put hc eh13
      refine lv_aload_n hx hb dJ2_addAll_66 rfl (lv_at hl 4 rfl) ?_
      refine lv_iload hx hb dJ2_addAll_67 (lv_at hl 1 rfl) ?_
      refine lv_iload_n hx hb dJ2_addAll_69 rfl (lv_at hl 2 rfl) ?_
      refine lv_iadd hx hb dJ2_addAll_70 ?_
      obtain ⟨fs14, e14, k14, lo14, hF⟩ := pV_s hF
      obtain ⟨h14, eh14⟩ : ∃ z, z = hPut h13 a0 (.inr (10, fs14.set 2 (.int (x8_ + x4_)))) := ⟨_, rfl⟩
      rw [← eh14] at hF
      refine h_put (C := RJ2) (T := TJ2) (N := 3) hx hb hts in_J2 tyJ2 tyJ2_ok nmJ2 hown hGr hr hS e14 (by decide) rfl 2 (by decide) (hts _ q536) (fun _ h9 => h9) rfl (tyJ2_ok 2 (by decide)) rfl rfl k14 lo14 dJ2_addAll_71 (fun H locs hr hS => ?_)
      rw [← eh14] at hr
      replace hc := cst_put hc eh14
      refine lv_iconst (v := 1) hx hb dJ2_addAll_74 (by decide) ?_
      have bz := bud_r hc hF hmc hms
      refine W.widen (k := mc) (n := ms) bz.1 bz.2 ?_
      exact W.zret (v := (1 : Int32)) hx hb hret rfl (fun t ht hWm => ⟨⟨(1 : Int32), h14, rfl, Option.some.inj hF, h_end hGr hr hS ht hWm⟩, hS.F ht⟩) hS.2.2 dJ2_addAll_75
  · replace hF := it_t c5 hF
    refine lv_iconst (v := 0) hx hb dJ2_addAll_24 (by decide) ?_
    have bz := bud_r hc hF hmc hms
    refine W.widen (k := mc) (n := ms) bz.1 bz.2 ?_
    exact W.zret (v := (0 : Int32)) hx hb hret rfl (fun t ht hWm => ⟨⟨(0 : Int32), h3, rfl, Option.some.inj hF, h_end hGr hr hS ht hWm⟩, hS.F ht⟩) hS.2.2 dJ2_addAll_25

def GJ2_clear_1 (R : Nat → Hp → Nat → Nat → Int32 → Int32 → Option (Int32 × Hp)) (n : Nat) (h : Hp) (b0 : Nat) (b1 : Nat) (x2 : Int32) (x3 : Int32) : Option (Int32 × Hp) := if x2 ≤ x3 then some (0, h) else sN h b1 2 x3 (fun h7 => R 1 h7 b0 b1 x2 (x3 + 1))
def GJ2_clear_r : Nat → Nat → Hp → Nat → Nat → Int32 → Int32 → Option (Int32 × Hp)
  | 0 => fun _ _ _ _ _ _ => none
  | n + 1 => fun k => match k with  | _ => GJ2_clear_1 (GJ2_clear_r n) n
def GJ2_clear_0 (R : Nat → Hp → Nat → Nat → Int32 → Int32 → Option (Int32 × Hp)) (n : Nat) (h : Hp) (a0 : Nat) : Option (Int32 × Hp) := gI h a0 10 0 (fun x1_ => pV h a0 10 0 (.int (x1_ + 1)) (fun h2 => gQ h2 a0 10 1 (fun x3_ => gI h2 a0 10 2 (fun x4_ => pV h2 a0 10 2 (.int 0) (fun h5 => R 1 h5 a0 x3_ x4_ (0 : Int32))))))
def GJ2_clear (n : Nat) (h : Hp) (a0 : Nat) : Option (Int32 × Hp) := GJ2_clear_0 (GJ2_clear_r n) n h a0
theorem moJ2_clear_r (n : Nat) : (∀ (h : Hp) (b0 : Nat) (b1 : Nat) (x2 : Int32) (x3 : Int32), Mo h (GJ2_clear_r n 1 h b0 b1 x2 x3)) := by
  induction n with
  | zero => exact (fun _ _ _ _ _ => mo_no)
  | succ n ih =>
    have ml1 := ih
    exact (fun h b0 b1 x2 x3 => show Mo h (GJ2_clear_1 (GJ2_clear_r n) n h b0 b1 x2 x3) from by unfold GJ2_clear_1; exact mo_ite (mo_ret hle_rf) (mo_sN hle_rf (fun h7 m7 => mo_tr m7 (ml1 h7 b0 b1 x2 (x3 + 1)))))
theorem moJ2_clear (n : Nat) (h : Hp) (a0 : Nat) : Mo h (GJ2_clear n h a0) := by
  have ml1 := moJ2_clear_r n
  unfold GJ2_clear GJ2_clear_0
  exact mo_gI (fun x1_ => mo_pV hle_rf (fun h2 m2 => mo_gQ (fun x3_ => mo_gI (fun x4_ => mo_pV m2 (fun h5 m5 => mo_tr m5 (ml1 h5 a0 x3_ x4_ (0 : Int32)))))))
set_option maxHeartbeats 4000000 in
set_option maxRecDepth 100000 in
theorem mgJ2_clear (l : Launch) (D : HD) (A : Nat → Prop) (h : Hp) (n : Nat) (a0 : Nat) (out : Int32 × Hp) (hF : GJ2_clear n h a0 = some out) (mc ms : Nat) (hmc : hCc out.2 = hCc h + mc) (hms : hSl out.2 = hSl h + ms) : Met l yJ2_clear (ws_ yJ2_clear cJ2_clear 4 none) ({ frames := 0, cells := mc, slots := ms, locals := 0 }) (va_Pc [.ref a0] (hW D A h)) (va_Qv (fun u => (0, u) = out) (hW D A) A) mc ms A := by
  refine va_MetF (cc := cJ2_clear) (maxL := 4) (ret := none) (by decide +kernel) rfl ?_
  intro p e s m args below meth c s₁ B hml hv
  obtain ⟨rfl, hr, hGr⟩ := hv
  have hx := B.exec
  have hb := B.bytes
  have hret := B.returns
  have hts := atoms_spec (ws := (ws_ yJ2_clear cJ2_clear 4 none)) B.pre
  have hts : ∀ w ∈ lw_all, w.before _ s = true := fun w h => hts w (List.mem_cons_of_mem _ h)
  have hown : s.vm.findClass RJ2 = some m.cls := findClass_of_methodNamed B.named
  have hlocks := B.notSynchronized
  have hS : va_S A s.heap s.heap [] := va_S.rf
  have hc : cst h 0 0 h := cst_0
  have hl := lv_entry ([.ref a0]) (n := 4) (Nat.le_of_ble_eq_true rfl)
  rw [lg_entry_eq]
  generalize (lg_sl ([.ref a0]) ++ List.replicate (4 - (lg_sl ([.ref a0])).length) Slot.unset).toArray = ls at hl ⊢
  have hl : lv_has ls 4 [(0, .ref a0)] := hl
  obtain ⟨h0, eh0⟩ : ∃ z, z = h := ⟨_, rfl⟩
  rw [← eh0] at hmc hms
  have loop : ∀ n : Nat, (∀ (h : Hp) (b0 : Nat) (b1 : Nat) (x2 : Int32) (x3 : Int32), GJ2_clear_r n 1 h b0 b1 x2 x3 = some out → ∀ (H : Heap) (locs : List Loc) (cells slots : Nat), cst h0 cells slots h → hR D A h H → va_S A s.heap H locs → ∀ ls : Array Slot, lv_has ls 4 [(0, .ref b0), (1, .ref b1), (2, .int x2), (3, .int x3)] → W p l e (headSpec (ws_ yJ2_clear cJ2_clear 4 none) ({ frames := 0, cells := mc, slots := ms, locals := 0 })).room s m ([.ref a0] : List Value).toArray below meth c H locs cells slots (MQ below (va_Qv (fun u => (0, u) = out) (hW D A) A) ([.ref a0] : List Value).toArray s mc ms A) (F0 m 27 ls [])) := by
    intro n
    induction n with
    | zero => exact (fun _ _ _ _ _ h => nomatch h)
    | succ n ih =>
      have lp1 := ih
      have ml1 := moJ2_clear_r n
      intro h b0 b1 x2 x3 hF H locs cells slots hc hr hS ls hl
      replace hF : GJ2_clear_1 (GJ2_clear_r n) n h b0 b1 x2 x3 = some out := hF
      unfold GJ2_clear_1 at hF
      refine lv_iload_n hx hb dJ2_clear_27 rfl (lv_at hl 3 rfl) ?_
      refine lv_iload_n hx hb dJ2_clear_28 rfl (lv_at hl 2 rfl) ?_
      refine lv_icmp_ge (tgt := 42) hx hb dJ2_clear_29 (by decide) (fun c6 => ?_) (fun c6 => ?_)
      · replace hF := it_t c6 hF
        have bz := bud_r hc hF hmc hms
        refine W.widen (k := mc) (n := ms) bz.1 bz.2 ?_
        exact W.vret hx hb hret (fun t ht hWm => ⟨⟨h, rfl, Option.some.inj hF, h_end hGr hr hS ht hWm⟩, hS.F ht⟩) hS.2.2 dJ2_clear_42
      · replace hF := it_f c6 hF
        refine lv_aload_n hx hb dJ2_clear_32 rfl (lv_at hl 1 rfl) ?_
        refine lv_iload_n hx hb dJ2_clear_33 rfl (lv_at hl 3 rfl) ?_
        refine lv_null hx hb dJ2_clear_34 ?_
        obtain ⟨n7, f7, e7, lo7, kd7, g7, hF⟩ := sN_s hF
        obtain ⟨h7, eh7⟩ : ∃ z, z = hPut h b1 (.inl (2, n7, .inr (.inr (.inr (.inr (va_up f7 (x3).toNatClampNeg none)))))) := ⟨_, rfl⟩
        rw [← eh7] at hF
        refine h_aastN hx hb hGr hr hS kd7 e7 g7 lo7 dJ2_clear_35 (fun H locs hr hS => ?_)
        rw [← eh7] at hr
        replace hc := cst_put hc eh7
        refine lv_iinc (v := (x3 + 1)) (lv' := [(3, .int (x3 + 1)), (0, .ref b0), (1, .ref b1), (2, .int x2)]) hx hb dJ2_clear_36 hl (k := 3) rfl rfl (by decide) rfl (fun ls hl => ?_)
        refine lv_goto (tgt := 27) hx hb dJ2_clear_39 (by decide) ?_
        exact lp1 h7 b0 b1 x2 (x3 + 1) hF _ _ _ _ hc hr hS ls (lv_sub hl [1, 2, 3, 0] rfl)
  have lp1 := loop n
  have ml1 := moJ2_clear_r n
  have hc : cst h0 0 0 h := by rw [eh0]; exact cst_0
  unfold GJ2_clear GJ2_clear_0 at hF
  refine lv_aload_n hx hb dJ2_clear_0 rfl (lv_at hl 0 rfl) ?_
  refine lv_dup hx hb dJ2_clear_1 rfl ?_
  obtain ⟨fs1, x1_, e1, f1, hF⟩ := gI_s hF
  refine h_get (C := RJ2) (T := TJ2) (N := 3) hx hb hts in_J2 hown hGr hr e1 (by decide) rfl 0 (by decide) (hts _ q538) (u_same (hts _ q539)) f1 dJ2_clear_2 ?_
  refine lv_iconst (v := 1) hx hb dJ2_clear_5 (by decide) ?_
  refine lv_iadd hx hb dJ2_clear_6 ?_
  obtain ⟨fs2, e2, k2, lo2, hF⟩ := pV_s hF
  obtain ⟨h2, eh2⟩ : ∃ z, z = hPut h a0 (.inr (10, fs2.set 0 (.int (x1_ + 1)))) := ⟨_, rfl⟩
  rw [← eh2] at hF
  refine h_put (C := RJ2) (T := TJ2) (N := 3) hx hb hts in_J2 tyJ2 tyJ2_ok nmJ2 hown hGr hr hS e2 (by decide) rfl 0 (by decide) (hts _ q538) (u_same (hts _ q539)) rfl (tyJ2_ok 0 (by decide)) rfl rfl k2 lo2 dJ2_clear_7 (fun H locs hr hS => ?_)
  rw [← eh2] at hr
  replace hc := cst_put hc eh2
  refine lv_aload_n hx hb dJ2_clear_10 rfl (lv_at hl 0 rfl) ?_
  obtain ⟨fs3, x3_, e3, f3, hF⟩ := gQ_s hF
  refine h_get (C := RJ2) (T := TJ2) (N := 3) hx hb hts in_J2 hown hGr hr e3 (by decide) rfl 1 (by decide) (hts _ q535) (fun _ h9 => h9) f3 dJ2_clear_11 ?_
  refine lv_astore_n (lv' := [(1, .ref x3_), (0, .ref a0)]) hx hb dJ2_clear_14 rfl hl (by decide) rfl (fun ls hl => ?_)
  refine lv_aload_n hx hb dJ2_clear_15 rfl (lv_at hl 1 rfl) ?_
  obtain ⟨fs4, x4_, e4, f4, hF⟩ := gI_s hF
  refine h_get (C := RJ2) (T := TJ2) (N := 3) hx hb hts in_J2 hown hGr hr e4 (by decide) rfl 2 (by decide) (hts _ q536) (fun _ h9 => h9) f4 dJ2_clear_16 ?_
  refine lv_istore_n (lv' := [(2, .int x4_), (1, .ref x3_), (0, .ref a0)]) hx hb dJ2_clear_19 rfl hl (by decide) rfl (fun ls hl => ?_)
  refine lv_aload_n hx hb dJ2_clear_20 rfl (lv_at hl 2 rfl) ?_
  refine lv_iconst (v := 0) hx hb dJ2_clear_21 (by decide) ?_
  refine lv_dup_x1 hx hb dJ2_clear_22 rfl rfl ?_
  obtain ⟨fs5, e5, k5, lo5, hF⟩ := pV_s hF
  obtain ⟨h5, eh5⟩ : ∃ z, z = hPut h2 a0 (.inr (10, fs5.set 2 (.int 0))) := ⟨_, rfl⟩
  rw [← eh5] at hF
  refine h_put (C := RJ2) (T := TJ2) (N := 3) hx hb hts in_J2 tyJ2 tyJ2_ok nmJ2 hown hGr hr hS e5 (by decide) rfl 2 (by decide) (hts _ q536) (fun _ h9 => h9) rfl (tyJ2_ok 2 (by decide)) rfl rfl k5 lo5 dJ2_clear_23 (fun H locs hr hS => ?_)
  rw [← eh5] at hr
  replace hc := cst_put hc eh5
  refine lv_istore_n (lv' := [(3, .int 0), (2, .int x4_), (1, .ref x3_), (0, .ref a0)]) hx hb dJ2_clear_26 rfl hl (by decide) rfl (fun ls hl => ?_)
  exact lp1 h5 a0 x3_ x4_ (0 : Int32) hF _ _ _ _ hc hr hS ls (lv_sub hl [3, 2, 1, 0] rfl)

def GJ17_init (h : Hp) (a0 : Nat) : Option (Int32 × Hp) := bnd (GJ0_init h a0) (fun r1 u1 => nQ u1 2 (17 : Int32) (fun a2_ h2 => pV h2 a0 11 0 (.ref a2_) (fun h3 => some (0, h3))))
theorem moJ17_init (h : Hp) (a0 : Nat) : Mo h (GJ17_init h a0) := by
  unfold GJ17_init
  exact mo_bnd (moJ0_init h a0) hle_rf (fun r1 u1 m1 => mo_nQ m1 (fun a2_ h2 m2 => mo_pV m2 (fun h3 m3 => mo_ret m3)))
set_option maxHeartbeats 4000000 in
set_option maxRecDepth 100000 in
theorem mgJ17_init (l : Launch) (D : HD) (A : Nat → Prop) (h : Hp) (a0 : Nat) (out : Int32 × Hp) (hF : GJ17_init h a0 = some out) (mc ms : Nat) (hmc : hCc out.2 = hCc h + mc) (hms : hSl out.2 = hSl h + ms) : Met l yJ17_init (ws_ yJ17_init cJ17_init 1 none) ({ frames := 2, cells := mc, slots := ms, locals := 40 }) (va_Pc [.ref a0] (hW D A h)) (va_Qv (fun u => (0, u) = out) (hW D A) A) mc ms A := by
  refine va_MetF (cc := cJ17_init) (maxL := 1) (ret := none) (by decide +kernel) rfl ?_
  intro p e s m args below meth c s₁ B hml hv
  obtain ⟨rfl, hr, hGr⟩ := hv
  have hx := B.exec
  have hb := B.bytes
  have hret := B.returns
  have hts := atoms_spec (ws := (ws_ yJ17_init cJ17_init 1 none)) B.pre
  have hts : ∀ w ∈ lw_all, w.before _ s = true := fun w h => hts w (List.mem_cons_of_mem _ h)
  have hown : s.vm.findClass RJ17 = some m.cls := findClass_of_methodNamed B.named
  have hlocks := B.notSynchronized
  have hin : meth.name = "<init>" := (name_of_methodNamed B.named B.method).1
  have hS : va_S A s.heap s.heap [] := va_S.rf
  have hc : cst h 0 0 h := cst_0
  have hl := lv_entry ([.ref a0]) (n := 1) (Nat.le_of_ble_eq_true rfl)
  rw [lg_entry_eq]
  generalize (lg_sl ([.ref a0]) ++ List.replicate (1 - (lg_sl ([.ref a0])).length) Slot.unset).toArray = ls at hl ⊢
  have hl : lv_has ls 1 [(0, .ref a0)] := hl
  unfold GJ17_init at hF
  refine lv_aload_n hx hb dJ17_init_0 rfl (lv_at hl 0 rfl) ?_
  obtain ⟨r1, u1, e1, hF⟩ := bnd_s hF
  have mm1 : hle u1 out.2 := (show Mo u1 _ from mo_nQ hle_rf (fun a2_ h2 m2 => mo_pV m2 (fun h3 m3 => mo_ret m3))) _ hF
  obtain ⟨mc1, ms1, hmc1, hms1⟩ := up_of (moJ0_init h a0 _ e1)
  replace hc := cst_call hc hmc1 hms1
  refine h_callv (va_runI (As := []) (rest := []) ⟨hx, hb, hml, hown, hts⟩ (mgJ0_init l D A h a0 _ e1 mc1 ms1 hmc1 hms1) (cwI 0 hts (lw_meth q192) rfl rfl rfl (hts _ q104) (hts _ q618) (hts _ q191) rfl (by decide +kernel) ⟨Nat.le_of_ble_eq_true rfl, Nat.le_of_ble_eq_true rfl⟩) (h_preS hGr hr hS _) rfl rfl hl.1 rfl (lv_room (Nat.le_of_ble_eq_true rfl)) dJ17_init_1 ⟨(bud hc mm1 hmc hms).1, (bud hc mm1 hmc hms).2⟩) hS (fun uu H locs hw hr hS => ?_)
  obtain rfl : u1 = uu := (congrArg Prod.snd hw).symm
  refine lv_aload_n hx hb dJ17_init_4 rfl (lv_at hl 0 rfl) ?_
  refine lv_bipush (v := 17) hx hb dJ17_init_5 (by decide) ?_
  obtain ⟨a2_, h2, ea2, eh2, g2, hF⟩ := nQ_s hF
  have mm2 : hle h2 out.2 := (show Mo h2 _ from mo_pV hle_rf (fun h3 m3 => mo_ret m3)) _ hF
  replace hc := cst_new hc eh2
  refine h_newO hx hb hown (hts _ q619) hGr hr hS g2 (bud hc mm2 hmc hms).1 (bud hc mm2 hmc hms).2 dJ17_init_7 (fun H hr hS => ?_)
  rw [← eh2] at hr
  rw [← ea2]
  obtain ⟨fs3, e3, k3, lo3, hF⟩ := pV_s hF
  obtain ⟨h3, eh3⟩ : ∃ z, z = hPut h2 a0 (.inr (11, fs3.set 0 (.ref a2_))) := ⟨_, rfl⟩
  rw [← eh3] at hF
  refine h_put (C := RJ17) (T := TJ17) (N := 3) hx hb hts in_J17 tyJ17 tyJ17_ok nmJ17 hown hGr hr hS e3 (by decide) rfl 0 (by decide) (hts _ q620) (fun _ h9 => h9) rfl (tyJ17_ok 0 (by decide)) rfl rfl k3 lo3 dJ17_init_10 (fun H locs hr hS => ?_)
  rw [← eh3] at hr
  replace hc := cst_put hc eh3
  have bz := bud_r hc hF hmc hms
  refine W.widen (k := mc) (n := ms) bz.1 bz.2 ?_
  exact W.vret hx hb hret (fun t ht hWm => ⟨⟨h3, rfl, Option.some.inj hF, h_end hGr hr hS ht hWm⟩, hS.F ht⟩) hS.2.2 dJ17_init_13

def GJ17_sub (h : Hp) (p0 : Int32) (p1 : Int32) (p2 : Int32) : Option (Int32 × Hp) := if 0 ≤ (p0 - p1) then some ((p0 - p1), h) else some (((p0 - p1) + p2), h)
theorem moJ17_sub (h : Hp) (p0 : Int32) (p1 : Int32) (p2 : Int32) : Mo h (GJ17_sub h p0 p1 p2) := by
  unfold GJ17_sub
  exact mo_ite (mo_ret hle_rf) (mo_ret hle_rf)
set_option maxHeartbeats 4000000 in
set_option maxRecDepth 100000 in
theorem mgJ17_sub (l : Launch) (D : HD) (A : Nat → Prop) (h : Hp) (p0 : Int32) (p1 : Int32) (p2 : Int32) (out : Int32 × Hp) (hF : GJ17_sub h p0 p1 p2 = some out) (mc ms : Nat) (hmc : hCc out.2 = hCc h + mc) (hms : hSl out.2 = hSl h + ms) : Met l yJ17_sub (ws_ yJ17_sub cJ17_sub 3 (some .int)) ({ frames := 0, cells := mc, slots := ms, locals := 0 }) (va_Pc [.int p0, .int p1, .int p2] (hW D A h)) (va_Qi (fun r u => (r, u) = out) (hW D A) A) mc ms A := by
  refine va_MetF (cc := cJ17_sub) (maxL := 3) (ret := (some .int)) (by decide +kernel) rfl ?_
  intro p e s m args below meth c s₁ B hml hv
  obtain ⟨rfl, hr, hGr⟩ := hv
  have hx := B.exec
  have hb := B.bytes
  have hret := B.returns
  have hts := atoms_spec (ws := (ws_ yJ17_sub cJ17_sub 3 (some .int))) B.pre
  have hts : ∀ w ∈ lw_all, w.before _ s = true := fun w h => hts w (List.mem_cons_of_mem _ h)
  have hown : s.vm.findClass RJ17 = some m.cls := findClass_of_methodNamed B.named
  have hlocks := B.notSynchronized
  have hS : va_S A s.heap s.heap [] := va_S.rf
  have hc : cst h 0 0 h := cst_0
  have hl := lv_entry ([.int p0, .int p1, .int p2]) (n := 3) (Nat.le_of_ble_eq_true rfl)
  rw [lg_entry_eq]
  generalize (lg_sl ([.int p0, .int p1, .int p2]) ++ List.replicate (3 - (lg_sl ([.int p0, .int p1, .int p2])).length) Slot.unset).toArray = ls at hl ⊢
  have hl : lv_has ls 3 [(0, .int p0), (1, .int p1), (2, .int p2)] := hl
  unfold GJ17_sub at hF
  refine lv_iload_n hx hb dJ17_sub_0 rfl (lv_at hl 0 rfl) ?_
  refine lv_iload_n hx hb dJ17_sub_1 rfl (lv_at hl 1 rfl) ?_
  refine lv_isub hx hb dJ17_sub_2 ?_
  refine lv_dup hx hb dJ17_sub_3 rfl ?_
  refine lv_istore_n (lv' := [(0, .int (p0 - p1)), (1, .int p1), (2, .int p2)]) hx hb dJ17_sub_4 rfl hl (by decide) rfl (fun ls hl => ?_)
  refine lv_if_ge (tgt := 12) hx hb dJ17_sub_5 (by decide) (fun c1 => ?_) (fun c1 => ?_)
  · replace hF := it_t c1 hF
    refine lv_iload_n hx hb dJ17_sub_12 rfl (lv_at hl 0 rfl) ?_
    have bz := bud_r hc hF hmc hms
    refine W.widen (k := mc) (n := ms) bz.1 bz.2 ?_
    exact W.iret (v := (p0 - p1)) hx hb hret (fun t ht hWm => ⟨⟨(p0 - p1), h, rfl, Option.some.inj hF, h_end hGr hr hS ht hWm⟩, hS.F ht⟩) hS.2.2 dJ17_sub_13
  · replace hF := it_f c1 hF
    refine lv_iload_n hx hb dJ17_sub_8 rfl (lv_at hl 0 rfl) ?_
    refine lv_iload_n hx hb dJ17_sub_9 rfl (lv_at hl 2 rfl) ?_
    refine lv_iadd hx hb dJ17_sub_10 ?_
    refine lv_istore_n (lv' := [(0, .int ((p0 - p1) + p2)), (1, .int p1), (2, .int p2)]) hx hb dJ17_sub_11 rfl hl (by decide) rfl (fun ls hl => ?_)
    refine lv_iload_n hx hb dJ17_sub_12 rfl (lv_at hl 0 rfl) ?_
    have bz := bud_r hc hF hmc hms
    refine W.widen (k := mc) (n := ms) bz.1 bz.2 ?_
    exact W.iret (v := ((p0 - p1) + p2)) hx hb hret (fun t ht hWm => ⟨⟨((p0 - p1) + p2), h, rfl, Option.some.inj hF, h_end hGr hr hS ht hWm⟩, hS.F ht⟩) hS.2.2 dJ17_sub_13

def GJ17_inc (h : Hp) (p0 : Int32) (p1 : Int32) : Option (Int32 × Hp) := if (p0 + 1) < p1 then some ((p0 + 1), h) else some ((0 : Int32), h)
theorem moJ17_inc (h : Hp) (p0 : Int32) (p1 : Int32) : Mo h (GJ17_inc h p0 p1) := by
  unfold GJ17_inc
  exact mo_ite (mo_ret hle_rf) (mo_ret hle_rf)
set_option maxHeartbeats 4000000 in
set_option maxRecDepth 100000 in
theorem mgJ17_inc (l : Launch) (D : HD) (A : Nat → Prop) (h : Hp) (p0 : Int32) (p1 : Int32) (out : Int32 × Hp) (hF : GJ17_inc h p0 p1 = some out) (mc ms : Nat) (hmc : hCc out.2 = hCc h + mc) (hms : hSl out.2 = hSl h + ms) : Met l yJ17_inc (ws_ yJ17_inc cJ17_inc 2 (some .int)) ({ frames := 0, cells := mc, slots := ms, locals := 0 }) (va_Pc [.int p0, .int p1] (hW D A h)) (va_Qi (fun r u => (r, u) = out) (hW D A) A) mc ms A := by
  refine va_MetF (cc := cJ17_inc) (maxL := 2) (ret := (some .int)) (by decide +kernel) rfl ?_
  intro p e s m args below meth c s₁ B hml hv
  obtain ⟨rfl, hr, hGr⟩ := hv
  have hx := B.exec
  have hb := B.bytes
  have hret := B.returns
  have hts := atoms_spec (ws := (ws_ yJ17_inc cJ17_inc 2 (some .int))) B.pre
  have hts : ∀ w ∈ lw_all, w.before _ s = true := fun w h => hts w (List.mem_cons_of_mem _ h)
  have hown : s.vm.findClass RJ17 = some m.cls := findClass_of_methodNamed B.named
  have hlocks := B.notSynchronized
  have hS : va_S A s.heap s.heap [] := va_S.rf
  have hc : cst h 0 0 h := cst_0
  have hl := lv_entry ([.int p0, .int p1]) (n := 2) (Nat.le_of_ble_eq_true rfl)
  rw [lg_entry_eq]
  generalize (lg_sl ([.int p0, .int p1]) ++ List.replicate (2 - (lg_sl ([.int p0, .int p1])).length) Slot.unset).toArray = ls at hl ⊢
  have hl : lv_has ls 2 [(0, .int p0), (1, .int p1)] := hl
  unfold GJ17_inc at hF
  refine lv_iinc (v := (p0 + 1)) (lv' := [(0, .int (p0 + 1)), (1, .int p1)]) hx hb dJ17_inc_0 hl (k := 0) rfl rfl (by decide) rfl (fun ls hl => ?_)
  refine lv_iload_n hx hb dJ17_inc_3 rfl (lv_at hl 0 rfl) ?_
  refine lv_iload_n hx hb dJ17_inc_4 rfl (lv_at hl 1 rfl) ?_
  refine lv_icmp_lt (tgt := 10) hx hb dJ17_inc_5 (by decide) (fun c1 => ?_) (fun c1 => ?_)
  · replace hF := it_t c1 hF
    refine lv_iload_n hx hb dJ17_inc_10 rfl (lv_at hl 0 rfl) ?_
    have bz := bud_r hc hF hmc hms
    refine W.widen (k := mc) (n := ms) bz.1 bz.2 ?_
    exact W.iret (v := (p0 + 1)) hx hb hret (fun t ht hWm => ⟨⟨(p0 + 1), h, rfl, Option.some.inj hF, h_end hGr hr hS ht hWm⟩, hS.F ht⟩) hS.2.2 dJ17_inc_11
  · replace hF := it_f c1 hF
    refine lv_iconst (v := 0) hx hb dJ17_inc_8 (by decide) ?_
    refine lv_istore_n (lv' := [(0, .int 0), (1, .int p1)]) hx hb dJ17_inc_9 rfl hl (by decide) rfl (fun ls hl => ?_)
    refine lv_iload_n hx hb dJ17_inc_10 rfl (lv_at hl 0 rfl) ?_
    have bz := bud_r hc hF hmc hms
    refine W.widen (k := mc) (n := ms) bz.1 bz.2 ?_
    exact W.iret (v := (0 : Int32)) hx hb hret (fun t ht hWm => ⟨⟨(0 : Int32), h, rfl, Option.some.inj hF, h_end hGr hr hS ht hWm⟩, hS.F ht⟩) hS.2.2 dJ17_inc_11

def GJ17_dec (h : Hp) (p0 : Int32) (p1 : Int32) : Option (Int32 × Hp) := if 0 ≤ (p0 + (-1)) then some ((p0 + (-1)), h) else some ((p1 - 1), h)
theorem moJ17_dec (h : Hp) (p0 : Int32) (p1 : Int32) : Mo h (GJ17_dec h p0 p1) := by
  unfold GJ17_dec
  exact mo_ite (mo_ret hle_rf) (mo_ret hle_rf)
set_option maxHeartbeats 4000000 in
set_option maxRecDepth 100000 in
theorem mgJ17_dec (l : Launch) (D : HD) (A : Nat → Prop) (h : Hp) (p0 : Int32) (p1 : Int32) (out : Int32 × Hp) (hF : GJ17_dec h p0 p1 = some out) (mc ms : Nat) (hmc : hCc out.2 = hCc h + mc) (hms : hSl out.2 = hSl h + ms) : Met l yJ17_dec (ws_ yJ17_dec cJ17_dec 2 (some .int)) ({ frames := 0, cells := mc, slots := ms, locals := 0 }) (va_Pc [.int p0, .int p1] (hW D A h)) (va_Qi (fun r u => (r, u) = out) (hW D A) A) mc ms A := by
  refine va_MetF (cc := cJ17_dec) (maxL := 2) (ret := (some .int)) (by decide +kernel) rfl ?_
  intro p e s m args below meth c s₁ B hml hv
  obtain ⟨rfl, hr, hGr⟩ := hv
  have hx := B.exec
  have hb := B.bytes
  have hret := B.returns
  have hts := atoms_spec (ws := (ws_ yJ17_dec cJ17_dec 2 (some .int))) B.pre
  have hts : ∀ w ∈ lw_all, w.before _ s = true := fun w h => hts w (List.mem_cons_of_mem _ h)
  have hown : s.vm.findClass RJ17 = some m.cls := findClass_of_methodNamed B.named
  have hlocks := B.notSynchronized
  have hS : va_S A s.heap s.heap [] := va_S.rf
  have hc : cst h 0 0 h := cst_0
  have hl := lv_entry ([.int p0, .int p1]) (n := 2) (Nat.le_of_ble_eq_true rfl)
  rw [lg_entry_eq]
  generalize (lg_sl ([.int p0, .int p1]) ++ List.replicate (2 - (lg_sl ([.int p0, .int p1])).length) Slot.unset).toArray = ls at hl ⊢
  have hl : lv_has ls 2 [(0, .int p0), (1, .int p1)] := hl
  unfold GJ17_dec at hF
  refine lv_iinc (v := (p0 + (-1))) (lv' := [(0, .int (p0 + (-1))), (1, .int p1)]) hx hb dJ17_dec_0 hl (k := 0) rfl rfl (by decide) rfl (fun ls hl => ?_)
  refine lv_iload_n hx hb dJ17_dec_3 rfl (lv_at hl 0 rfl) ?_
  refine lv_if_ge (tgt := 11) hx hb dJ17_dec_4 (by decide) (fun c1 => ?_) (fun c1 => ?_)
  · replace hF := it_t c1 hF
    refine lv_iload_n hx hb dJ17_dec_11 rfl (lv_at hl 0 rfl) ?_
    have bz := bud_r hc hF hmc hms
    refine W.widen (k := mc) (n := ms) bz.1 bz.2 ?_
    exact W.iret (v := (p0 + (-1))) hx hb hret (fun t ht hWm => ⟨⟨(p0 + (-1)), h, rfl, Option.some.inj hF, h_end hGr hr hS ht hWm⟩, hS.F ht⟩) hS.2.2 dJ17_dec_12
  · replace hF := it_f c1 hF
    refine lv_iload_n hx hb dJ17_dec_7 rfl (lv_at hl 1 rfl) ?_
    refine lv_iconst (v := 1) hx hb dJ17_dec_8 (by decide) ?_
    refine lv_isub hx hb dJ17_dec_9 ?_
    refine lv_istore_n (lv' := [(0, .int (p1 - 1)), (1, .int p1)]) hx hb dJ17_dec_10 rfl hl (by decide) rfl (fun ls hl => ?_)
    refine lv_iload_n hx hb dJ17_dec_11 rfl (lv_at hl 0 rfl) ?_
    have bz := bud_r hc hF hmc hms
    refine W.widen (k := mc) (n := ms) bz.1 bz.2 ?_
    exact W.iret (v := (p1 - 1)) hx hb hret (fun t ht hWm => ⟨⟨(p1 - 1), h, rfl, Option.some.inj hF, h_end hGr hr hS ht hWm⟩, hS.F ht⟩) hS.2.2 dJ17_dec_12

def GJ17_elementAt (h : Hp) (a0 : Nat) (p1 : Int32) : Option (Nat × Hp) := aQ h a0 2 p1 (fun x1_ => some (x1_, h))
theorem moJ17_elementAt (h : Hp) (a0 : Nat) (p1 : Int32) : Mo h (GJ17_elementAt h a0 p1) := by
  unfold GJ17_elementAt
  exact mo_aQ (fun x1_ => mo_ret hle_rf)
set_option maxHeartbeats 4000000 in
set_option maxRecDepth 100000 in
theorem mgJ17_elementAt (l : Launch) (D : HD) (A : Nat → Prop) (h : Hp) (a0 : Nat) (p1 : Int32) (out : Nat × Hp) (hF : GJ17_elementAt h a0 p1 = some out) (mc ms : Nat) (hmc : hCc out.2 = hCc h + mc) (hms : hSl out.2 = hSl h + ms) : Met l yJ17_elementAt (ws_ yJ17_elementAt cJ17_elementAt 2 (some (.object "java/lang/Object"))) ({ frames := 0, cells := mc, slots := ms, locals := 0 }) (va_Pc [.ref a0, .int p1] (hW D A h)) (va_Qr (fun _ : Hp => True) (fun u r t => (r, u) = out ∧ hW D A u t) A) mc ms A := by
  refine va_MetF (cc := cJ17_elementAt) (maxL := 2) (ret := (some (.object "java/lang/Object"))) (by decide +kernel) rfl ?_
  intro p e s m args below meth c s₁ B hml hv
  obtain ⟨rfl, hr, hGr⟩ := hv
  have hx := B.exec
  have hb := B.bytes
  have hret := B.returns
  have hts := atoms_spec (ws := (ws_ yJ17_elementAt cJ17_elementAt 2 (some (.object "java/lang/Object")))) B.pre
  have hts : ∀ w ∈ lw_all, w.before _ s = true := fun w h => hts w (List.mem_cons_of_mem _ h)
  have hown : s.vm.findClass RJ17 = some m.cls := findClass_of_methodNamed B.named
  have hlocks := B.notSynchronized
  have hS : va_S A s.heap s.heap [] := va_S.rf
  have hc : cst h 0 0 h := cst_0
  have hl := lv_entry ([.ref a0, .int p1]) (n := 2) (Nat.le_of_ble_eq_true rfl)
  rw [lg_entry_eq]
  generalize (lg_sl ([.ref a0, .int p1]) ++ List.replicate (2 - (lg_sl ([.ref a0, .int p1])).length) Slot.unset).toArray = ls at hl ⊢
  have hl : lv_has ls 2 [(0, .ref a0), (1, .int p1)] := hl
  unfold GJ17_elementAt at hF
  refine lv_aload_n hx hb dJ17_elementAt_0 rfl (lv_at hl 0 rfl) ?_
  refine lv_iload_n hx hb dJ17_elementAt_1 rfl (lv_at hl 1 rfl) ?_
  obtain ⟨n1, f1, x1_, e1, g1, ex1, hF⟩ := aQ_s hF
  refine h_aald hx hb hGr hr (by decide) e1 g1 dJ17_elementAt_2 (v := .ref x1_) (by rw [ex1]; rfl) ?_
  have bz := bud_r hc hF hmc hms
  refine W.widen (k := mc) (n := ms) bz.1 bz.2 ?_
  exact W.aret (v := .ref x1_) hx hb hret (Or.inl ⟨_, rfl⟩) (Or.inr ⟨_, rfl⟩) (fun t ht hWm => ⟨⟨h, x1_, rfl, trivial, Option.some.inj hF, h_end hGr hr hS ht hWm⟩, hS.F ht⟩) hS.2.2 dJ17_elementAt_3

def GJ17_size (h : Hp) (a0 : Nat) : Option (Int32 × Hp) := gI h a0 11 2 (fun x1_ => gI h a0 11 1 (fun x2_ => gQ h a0 11 0 (fun x3_ => aL h x3_ (fun x4_ => bnd (GJ17_sub h x1_ x2_ x4_) (fun r5 u5 => some (r5, u5))))))
theorem moJ17_size (h : Hp) (a0 : Nat) : Mo h (GJ17_size h a0) := by
  unfold GJ17_size
  exact mo_gI (fun x1_ => mo_gI (fun x2_ => mo_gQ (fun x3_ => mo_aL (fun x4_ => mo_bnd (moJ17_sub h x1_ x2_ x4_) hle_rf (fun r5 u5 m5 => mo_ret m5)))))
set_option maxHeartbeats 4000000 in
set_option maxRecDepth 100000 in
theorem mgJ17_size (l : Launch) (D : HD) (A : Nat → Prop) (h : Hp) (a0 : Nat) (out : Int32 × Hp) (hF : GJ17_size h a0 = some out) (mc ms : Nat) (hmc : hCc out.2 = hCc h + mc) (hms : hSl out.2 = hSl h + ms) : Met l yJ17_size (ws_ yJ17_size cJ17_size 1 (some .int)) ({ frames := 1, cells := mc, slots := ms, locals := 22 }) (va_Pc [.ref a0] (hW D A h)) (va_Qi (fun r u => (r, u) = out) (hW D A) A) mc ms A := by
  refine va_MetF (cc := cJ17_size) (maxL := 1) (ret := (some .int)) (by decide +kernel) rfl ?_
  intro p e s m args below meth c s₁ B hml hv
  obtain ⟨rfl, hr, hGr⟩ := hv
  have hx := B.exec
  have hb := B.bytes
  have hret := B.returns
  have hts := atoms_spec (ws := (ws_ yJ17_size cJ17_size 1 (some .int))) B.pre
  have hts : ∀ w ∈ lw_all, w.before _ s = true := fun w h => hts w (List.mem_cons_of_mem _ h)
  have hown : s.vm.findClass RJ17 = some m.cls := findClass_of_methodNamed B.named
  have hlocks := B.notSynchronized
  have hS : va_S A s.heap s.heap [] := va_S.rf
  have hc : cst h 0 0 h := cst_0
  have hl := lv_entry ([.ref a0]) (n := 1) (Nat.le_of_ble_eq_true rfl)
  rw [lg_entry_eq]
  generalize (lg_sl ([.ref a0]) ++ List.replicate (1 - (lg_sl ([.ref a0])).length) Slot.unset).toArray = ls at hl ⊢
  have hl : lv_has ls 1 [(0, .ref a0)] := hl
  unfold GJ17_size at hF
  refine lv_aload_n hx hb dJ17_size_0 rfl (lv_at hl 0 rfl) ?_
  obtain ⟨fs1, x1_, e1, f1, hF⟩ := gI_s hF
  refine h_get (C := RJ17) (T := TJ17) (N := 3) hx hb hts in_J17 hown hGr hr e1 (by decide) rfl 2 (by decide) (hts _ q622) (fun _ h9 => h9) f1 dJ17_size_1 ?_
  refine lv_aload_n hx hb dJ17_size_4 rfl (lv_at hl 0 rfl) ?_
  obtain ⟨fs2, x2_, e2, f2, hF⟩ := gI_s hF
  refine h_get (C := RJ17) (T := TJ17) (N := 3) hx hb hts in_J17 hown hGr hr e2 (by decide) rfl 1 (by decide) (hts _ q621) (fun _ h9 => h9) f2 dJ17_size_5 ?_
  refine lv_aload_n hx hb dJ17_size_8 rfl (lv_at hl 0 rfl) ?_
  obtain ⟨fs3, x3_, e3, f3, hF⟩ := gQ_s hF
  refine h_get (C := RJ17) (T := TJ17) (N := 3) hx hb hts in_J17 hown hGr hr e3 (by decide) rfl 0 (by decide) (hts _ q620) (fun _ h9 => h9) f3 dJ17_size_9 ?_
  obtain ⟨k4, y4, e4, g4, hF⟩ := aL_s hF
  obtain ⟨x4_, ex4⟩ : ∃ z, z = Int32.ofNat y4.1 := ⟨_, rfl⟩
  rw [← ex4] at hF
  refine h_alen hx hb hGr hr e4 g4 dJ17_size_12 ?_
  rw [← ex4]
  obtain ⟨r5, u5, e5, hF⟩ := bnd_s hF
  have mm5 : hle u5 out.2 := (show Mo u5 _ from mo_ret hle_rf) _ hF
  obtain ⟨mc5, ms5, hmc5, hms5⟩ := up_of (moJ17_sub h x1_ x2_ x4_ _ e5)
  replace hc := cst_call hc hmc5 hms5
  refine h_calli (va_runS (As := [.int x1_, .int x2_, .int x4_]) (rest := []) ⟨hx, hb, hml, hown, hts⟩ (mgJ17_sub l D A h x1_ x2_ x4_ _ e5 mc5 ms5 hmc5 hms5) (va_cwS 3 hts (lw_S q778 q779 q124 q780) rfl rfl rfl (by decide +kernel) ⟨Nat.le_of_ble_eq_true rfl, Nat.le_of_ble_eq_true rfl⟩) (h_preS hGr hr hS _) rfl rfl hl.1 rfl (lv_room (Nat.le_of_ble_eq_true rfl)) dJ17_size_13 ⟨(bud hc mm5 hmc hms).1, (bud hc mm5 hmc hms).2⟩) hS (fun rr uu H locs hw hr hS => ?_)
  obtain rfl : u5 = uu := (congrArg Prod.snd hw).symm
  obtain rfl : r5 = rr := (congrArg Prod.fst hw).symm
  have bz := bud_r hc hF hmc hms
  refine W.widen (k := mc) (n := ms) bz.1 bz.2 ?_
  exact W.iret (v := r5) hx hb hret (fun t ht hWm => ⟨⟨r5, u5, rfl, Option.some.inj hF, h_end hGr hr hS ht hWm⟩, hS.F ht⟩) hS.2.2 dJ17_size_16

def GJ17_isEmpty (h : Hp) (a0 : Nat) : Option (Int32 × Hp) := gI h a0 11 1 (fun x1_ => gI h a0 11 2 (fun x2_ => if x1_ = x2_ then some ((1 : Int32), h) else some ((0 : Int32), h)))
theorem moJ17_isEmpty (h : Hp) (a0 : Nat) : Mo h (GJ17_isEmpty h a0) := by
  unfold GJ17_isEmpty
  exact mo_gI (fun x1_ => mo_gI (fun x2_ => mo_ite (mo_ret hle_rf) (mo_ret hle_rf)))
set_option maxHeartbeats 4000000 in
set_option maxRecDepth 100000 in
theorem mgJ17_isEmpty (l : Launch) (D : HD) (A : Nat → Prop) (h : Hp) (a0 : Nat) (out : Int32 × Hp) (hF : GJ17_isEmpty h a0 = some out) (mc ms : Nat) (hmc : hCc out.2 = hCc h + mc) (hms : hSl out.2 = hSl h + ms) : Met l yJ17_isEmpty (ws_ yJ17_isEmpty cJ17_isEmpty 1 (some .boolean)) ({ frames := 0, cells := mc, slots := ms, locals := 0 }) (va_Pc [.ref a0] (hW D A h)) (va_Qi (fun r u => (r, u) = out) (hW D A) A) mc ms A := by
  refine va_MetF (cc := cJ17_isEmpty) (maxL := 1) (ret := (some .boolean)) (by decide +kernel) rfl ?_
  intro p e s m args below meth c s₁ B hml hv
  obtain ⟨rfl, hr, hGr⟩ := hv
  have hx := B.exec
  have hb := B.bytes
  have hret := B.returns
  have hts := atoms_spec (ws := (ws_ yJ17_isEmpty cJ17_isEmpty 1 (some .boolean))) B.pre
  have hts : ∀ w ∈ lw_all, w.before _ s = true := fun w h => hts w (List.mem_cons_of_mem _ h)
  have hown : s.vm.findClass RJ17 = some m.cls := findClass_of_methodNamed B.named
  have hlocks := B.notSynchronized
  have hS : va_S A s.heap s.heap [] := va_S.rf
  have hc : cst h 0 0 h := cst_0
  have hl := lv_entry ([.ref a0]) (n := 1) (Nat.le_of_ble_eq_true rfl)
  rw [lg_entry_eq]
  generalize (lg_sl ([.ref a0]) ++ List.replicate (1 - (lg_sl ([.ref a0])).length) Slot.unset).toArray = ls at hl ⊢
  have hl : lv_has ls 1 [(0, .ref a0)] := hl
  unfold GJ17_isEmpty at hF
  refine lv_aload_n hx hb dJ17_isEmpty_0 rfl (lv_at hl 0 rfl) ?_
  obtain ⟨fs1, x1_, e1, f1, hF⟩ := gI_s hF
  refine h_get (C := RJ17) (T := TJ17) (N := 3) hx hb hts in_J17 hown hGr hr e1 (by decide) rfl 1 (by decide) (hts _ q621) (fun _ h9 => h9) f1 dJ17_isEmpty_1 ?_
  refine lv_aload_n hx hb dJ17_isEmpty_4 rfl (lv_at hl 0 rfl) ?_
  obtain ⟨fs2, x2_, e2, f2, hF⟩ := gI_s hF
  refine h_get (C := RJ17) (T := TJ17) (N := 3) hx hb hts in_J17 hown hGr hr e2 (by decide) rfl 2 (by decide) (hts _ q622) (fun _ h9 => h9) f2 dJ17_isEmpty_5 ?_
  refine lv_icmp_ne (tgt := 15) hx hb dJ17_isEmpty_8 (by decide) (fun c3 => ?_) (fun c3 => ?_)
  · replace hF := it_f c3 hF
    refine lv_iconst (v := 0) hx hb dJ17_isEmpty_15 (by decide) ?_
    have bz := bud_r hc hF hmc hms
    refine W.widen (k := mc) (n := ms) bz.1 bz.2 ?_
    exact W.zret (v := (0 : Int32)) hx hb hret rfl (fun t ht hWm => ⟨⟨(0 : Int32), h, rfl, Option.some.inj hF, h_end hGr hr hS ht hWm⟩, hS.F ht⟩) hS.2.2 dJ17_isEmpty_16
  · replace hF := it_t c3 hF
    refine lv_iconst (v := 1) hx hb dJ17_isEmpty_11 (by decide) ?_
    refine lv_goto (tgt := 16) hx hb dJ17_isEmpty_12 (by decide) ?_
    have bz := bud_r hc hF hmc hms
    refine W.widen (k := mc) (n := ms) bz.1 bz.2 ?_
    exact W.zret (v := (1 : Int32)) hx hb hret rfl (fun t ht hWm => ⟨⟨(1 : Int32), h, rfl, Option.some.inj hF, h_end hGr hr hS ht hWm⟩, hS.F ht⟩) hS.2.2 dJ17_isEmpty_16

def GJ17_pollFirst (h : Hp) (a0 : Nat) : Option (Nat × Hp) := gQ h a0 11 0 (fun x1_ => gI h a0 11 1 (fun x2_ => bnd (GJ17_elementAt h x1_ x2_) (fun r3 u3 => sN u3 x1_ 2 x2_ (fun h4 => aL h4 x1_ (fun x5_ => bnd (GJ17_inc h4 x2_ x5_) (fun r6 u6 => pV u6 a0 11 1 (.int r6) (fun h7 => some (r3, h7))))))))
theorem moJ17_pollFirst (h : Hp) (a0 : Nat) : Mo h (GJ17_pollFirst h a0) := by
  unfold GJ17_pollFirst
  exact mo_gQ (fun x1_ => mo_gI (fun x2_ => mo_bnd (moJ17_elementAt h x1_ x2_) hle_rf (fun r3 u3 m3 => mo_sN m3 (fun h4 m4 => mo_aL (fun x5_ => mo_bnd (moJ17_inc h4 x2_ x5_) m4 (fun r6 u6 m6 => mo_pV m6 (fun h7 m7 => mo_ret m7)))))))
set_option maxHeartbeats 4000000 in
set_option maxRecDepth 100000 in
theorem mgJ17_pollFirst (l : Launch) (D : HD) (A : Nat → Prop) (h : Hp) (a0 : Nat) (out : Nat × Hp) (hF : GJ17_pollFirst h a0 = some out) (mc ms : Nat) (hmc : hCc out.2 = hCc h + mc) (hms : hSl out.2 = hSl h + ms) : Met l yJ17_pollFirst (ws_ yJ17_pollFirst cJ17_pollFirst 4 (some (.object "java/lang/Object"))) ({ frames := 1, cells := mc, slots := ms, locals := 21 }) (va_Pc [.ref a0] (hW D A h)) (va_Qr (fun _ : Hp => True) (fun u r t => (r, u) = out ∧ hW D A u t) A) mc ms A := by
  refine va_MetF (cc := cJ17_pollFirst) (maxL := 4) (ret := (some (.object "java/lang/Object"))) (by decide +kernel) rfl ?_
  intro p e s m args below meth c s₁ B hml hv
  obtain ⟨rfl, hr, hGr⟩ := hv
  have hx := B.exec
  have hb := B.bytes
  have hret := B.returns
  have hts := atoms_spec (ws := (ws_ yJ17_pollFirst cJ17_pollFirst 4 (some (.object "java/lang/Object")))) B.pre
  have hts : ∀ w ∈ lw_all, w.before _ s = true := fun w h => hts w (List.mem_cons_of_mem _ h)
  have hown : s.vm.findClass RJ17 = some m.cls := findClass_of_methodNamed B.named
  have hlocks := B.notSynchronized
  have hS : va_S A s.heap s.heap [] := va_S.rf
  have hc : cst h 0 0 h := cst_0
  have hl := lv_entry ([.ref a0]) (n := 4) (Nat.le_of_ble_eq_true rfl)
  rw [lg_entry_eq]
  generalize (lg_sl ([.ref a0]) ++ List.replicate (4 - (lg_sl ([.ref a0])).length) Slot.unset).toArray = ls at hl ⊢
  have hl : lv_has ls 4 [(0, .ref a0)] := hl
  unfold GJ17_pollFirst at hF
  refine lv_aload_n hx hb dJ17_pollFirst_0 rfl (lv_at hl 0 rfl) ?_
  obtain ⟨fs1, x1_, e1, f1, hF⟩ := gQ_s hF
  refine h_get (C := RJ17) (T := TJ17) (N := 3) hx hb hts in_J17 hown hGr hr e1 (by decide) rfl 0 (by decide) (hts _ q620) (fun _ h9 => h9) f1 dJ17_pollFirst_1 ?_
  refine lv_dup hx hb dJ17_pollFirst_4 rfl ?_
  refine lv_astore_n (lv' := [(1, .ref x1_), (0, .ref a0)]) hx hb dJ17_pollFirst_5 rfl hl (by decide) rfl (fun ls hl => ?_)
  refine lv_aload_n hx hb dJ17_pollFirst_6 rfl (lv_at hl 1 rfl) ?_
  obtain ⟨fs2, x2_, e2, f2, hF⟩ := gI_s hF
  refine h_get (C := RJ17) (T := TJ17) (N := 3) hx hb hts in_J17 hown hGr hr e2 (by decide) rfl 1 (by decide) (hts _ q621) (fun _ h9 => h9) f2 dJ17_pollFirst_7 ?_
  refine lv_dup hx hb dJ17_pollFirst_10 rfl ?_
  refine lv_istore_n (lv' := [(2, .int x2_), (1, .ref x1_), (0, .ref a0)]) hx hb dJ17_pollFirst_11 rfl hl (by decide) rfl (fun ls hl => ?_)
  obtain ⟨r3, u3, e3, hF⟩ := bnd_s hF
  have mm3 : hle u3 out.2 := (show Mo u3 _ from mo_sN hle_rf (fun h4 m4 => mo_aL (fun x5_ => mo_bnd (moJ17_inc h4 x2_ x5_) m4 (fun r6 u6 m6 => mo_pV m6 (fun h7 m7 => mo_ret m7))))) _ hF
  obtain ⟨mc3, ms3, hmc3, hms3⟩ := up_of (moJ17_elementAt h x1_ x2_ _ e3)
  replace hc := cst_call hc hmc3 hms3
  refine h_callr (va_runS (As := [.ref x1_, .int x2_]) (rest := []) ⟨hx, hb, hml, hown, hts⟩ (mgJ17_elementAt l D A h x1_ x2_ _ e3 mc3 ms3 hmc3 hms3) (va_cwS 2 hts (lw_S q789 q790 q124 q791) rfl rfl rfl (by decide +kernel) ⟨Nat.le_of_ble_eq_true rfl, Nat.le_of_ble_eq_true rfl⟩) (h_preS hGr hr hS _) rfl rfl hl.1 rfl (lv_room (Nat.le_of_ble_eq_true rfl)) dJ17_pollFirst_12 ⟨(bud hc mm3 hmc hms).1, (bud hc mm3 hmc hms).2⟩) hS (fun rr uu H locs hw hr hS => ?_)
  obtain rfl : u3 = uu := (congrArg Prod.snd hw).symm
  obtain rfl : r3 = rr := (congrArg Prod.fst hw).symm
  refine lv_astore_n (lv' := [(3, .ref r3), (2, .int x2_), (1, .ref x1_), (0, .ref a0)]) hx hb dJ17_pollFirst_15 rfl hl (by decide) rfl (fun ls hl => ?_)
  refine lv_aload_n hx hb dJ17_pollFirst_16 rfl (lv_at hl 0 rfl) ?_
  refine lv_ifnull hx hb dJ17_pollFirst_17 ?_
  refine lv_aload_n hx hb dJ17_pollFirst_20 rfl (lv_at hl 2 rfl) ?_
  refine lv_iload_n hx hb dJ17_pollFirst_21 rfl (lv_at hl 1 rfl) ?_
  refine lv_null hx hb dJ17_pollFirst_22 ?_
  obtain ⟨n4, f4, e4, lo4, kd4, g4, hF⟩ := sN_s hF
  obtain ⟨h4, eh4⟩ : ∃ z, z = hPut u3 x1_ (.inl (2, n4, .inr (.inr (.inr (.inr (va_up f4 (x2_).toNatClampNeg none)))))) := ⟨_, rfl⟩
  rw [← eh4] at hF
  refine h_aastN hx hb hGr hr hS kd4 e4 g4 lo4 dJ17_pollFirst_23 (fun H locs hr hS => ?_)
  rw [← eh4] at hr
  replace hc := cst_put hc eh4
  refine lv_aload_n hx hb dJ17_pollFirst_24 rfl (lv_at hl 3 rfl) ?_
  refine lv_iload_n hx hb dJ17_pollFirst_25 rfl (lv_at hl 1 rfl) ?_
  refine lv_aload_n hx hb dJ17_pollFirst_26 rfl (lv_at hl 2 rfl) ?_
  obtain ⟨k5, y5, e5, g5, hF⟩ := aL_s hF
  obtain ⟨x5_, ex5⟩ : ∃ z, z = Int32.ofNat y5.1 := ⟨_, rfl⟩
  rw [← ex5] at hF
  refine h_alen hx hb hGr hr e5 g5 dJ17_pollFirst_27 ?_
  rw [← ex5]
  obtain ⟨r6, u6, e6, hF⟩ := bnd_s hF
  have mm6 : hle u6 out.2 := (show Mo u6 _ from mo_pV hle_rf (fun h7 m7 => mo_ret m7)) _ hF
  obtain ⟨mc6, ms6, hmc6, hms6⟩ := up_of (moJ17_inc h4 x2_ x5_ _ e6)
  replace hc := cst_call hc hmc6 hms6
  refine h_calli (va_runS (As := [.int x2_, .int x5_]) (rest := [.ref a0]) ⟨hx, hb, hml, hown, hts⟩ (mgJ17_inc l D A h4 x2_ x5_ _ e6 mc6 ms6 hmc6 hms6) (va_cwS 2 hts (lw_S q792 q793 q124 q794) rfl rfl rfl (by decide +kernel) ⟨Nat.le_of_ble_eq_true rfl, Nat.le_of_ble_eq_true rfl⟩) (h_preS hGr hr hS _) rfl rfl hl.1 rfl (lv_room (Nat.le_of_ble_eq_true rfl)) dJ17_pollFirst_28 ⟨(bud hc mm6 hmc hms).1, (bud hc mm6 hmc hms).2⟩) hS (fun rr uu H locs hw hr hS => ?_)
  obtain rfl : u6 = uu := (congrArg Prod.snd hw).symm
  obtain rfl : r6 = rr := (congrArg Prod.fst hw).symm
  obtain ⟨fs7, e7, k7, lo7, hF⟩ := pV_s hF
  obtain ⟨h7, eh7⟩ : ∃ z, z = hPut u6 a0 (.inr (11, fs7.set 1 (.int r6))) := ⟨_, rfl⟩
  rw [← eh7] at hF
  refine h_put (C := RJ17) (T := TJ17) (N := 3) hx hb hts in_J17 tyJ17 tyJ17_ok nmJ17 hown hGr hr hS e7 (by decide) rfl 1 (by decide) (hts _ q621) (fun _ h9 => h9) rfl (tyJ17_ok 1 (by decide)) rfl rfl k7 lo7 dJ17_pollFirst_31 (fun H locs hr hS => ?_)
  rw [← eh7] at hr
  replace hc := cst_put hc eh7
  refine lv_aload_n hx hb dJ17_pollFirst_34 rfl (lv_at hl 0 rfl) ?_
  have bz := bud_r hc hF hmc hms
  refine W.widen (k := mc) (n := ms) bz.1 bz.2 ?_
  exact W.aret (v := .ref r3) hx hb hret (Or.inl ⟨_, rfl⟩) (Or.inr ⟨_, rfl⟩) (fun t ht hWm => ⟨⟨h7, r3, rfl, trivial, Option.some.inj hF, h_end hGr hr hS ht hWm⟩, hS.F ht⟩) hS.2.2 dJ17_pollFirst_35

def GJ17_pollLast (h : Hp) (a0 : Nat) : Option (Nat × Hp) := gQ h a0 11 0 (fun x1_ => gI h a0 11 2 (fun x2_ => aL h x1_ (fun x3_ => bnd (GJ17_dec h x2_ x3_) (fun r4 u4 => bnd (GJ17_elementAt u4 x1_ r4) (fun r5 u5 => pV u5 a0 11 2 (.int r4) (fun h6 => sN h6 x1_ 2 r4 (fun h7 => some (r5, h7))))))))
theorem moJ17_pollLast (h : Hp) (a0 : Nat) : Mo h (GJ17_pollLast h a0) := by
  unfold GJ17_pollLast
  exact mo_gQ (fun x1_ => mo_gI (fun x2_ => mo_aL (fun x3_ => mo_bnd (moJ17_dec h x2_ x3_) hle_rf (fun r4 u4 m4 => mo_bnd (moJ17_elementAt u4 x1_ r4) m4 (fun r5 u5 m5 => mo_pV m5 (fun h6 m6 => mo_sN m6 (fun h7 m7 => mo_ret m7)))))))
set_option maxHeartbeats 4000000 in
set_option maxRecDepth 100000 in
theorem mgJ17_pollLast (l : Launch) (D : HD) (A : Nat → Prop) (h : Hp) (a0 : Nat) (out : Nat × Hp) (hF : GJ17_pollLast h a0 = some out) (mc ms : Nat) (hmc : hCc out.2 = hCc h + mc) (hms : hSl out.2 = hSl h + ms) : Met l yJ17_pollLast (ws_ yJ17_pollLast cJ17_pollLast 4 (some (.object "java/lang/Object"))) ({ frames := 1, cells := mc, slots := ms, locals := 21 }) (va_Pc [.ref a0] (hW D A h)) (va_Qr (fun _ : Hp => True) (fun u r t => (r, u) = out ∧ hW D A u t) A) mc ms A := by
  refine va_MetF (cc := cJ17_pollLast) (maxL := 4) (ret := (some (.object "java/lang/Object"))) (by decide +kernel) rfl ?_
  intro p e s m args below meth c s₁ B hml hv
  obtain ⟨rfl, hr, hGr⟩ := hv
  have hx := B.exec
  have hb := B.bytes
  have hret := B.returns
  have hts := atoms_spec (ws := (ws_ yJ17_pollLast cJ17_pollLast 4 (some (.object "java/lang/Object")))) B.pre
  have hts : ∀ w ∈ lw_all, w.before _ s = true := fun w h => hts w (List.mem_cons_of_mem _ h)
  have hown : s.vm.findClass RJ17 = some m.cls := findClass_of_methodNamed B.named
  have hlocks := B.notSynchronized
  have hS : va_S A s.heap s.heap [] := va_S.rf
  have hc : cst h 0 0 h := cst_0
  have hl := lv_entry ([.ref a0]) (n := 4) (Nat.le_of_ble_eq_true rfl)
  rw [lg_entry_eq]
  generalize (lg_sl ([.ref a0]) ++ List.replicate (4 - (lg_sl ([.ref a0])).length) Slot.unset).toArray = ls at hl ⊢
  have hl : lv_has ls 4 [(0, .ref a0)] := hl
  unfold GJ17_pollLast at hF
  refine lv_aload_n hx hb dJ17_pollLast_0 rfl (lv_at hl 0 rfl) ?_
  obtain ⟨fs1, x1_, e1, f1, hF⟩ := gQ_s hF
  refine h_get (C := RJ17) (T := TJ17) (N := 3) hx hb hts in_J17 hown hGr hr e1 (by decide) rfl 0 (by decide) (hts _ q620) (fun _ h9 => h9) f1 dJ17_pollLast_1 ?_
  refine lv_dup hx hb dJ17_pollLast_4 rfl ?_
  refine lv_astore_n (lv' := [(1, .ref x1_), (0, .ref a0)]) hx hb dJ17_pollLast_5 rfl hl (by decide) rfl (fun ls hl => ?_)
  refine lv_aload_n hx hb dJ17_pollLast_6 rfl (lv_at hl 1 rfl) ?_
  obtain ⟨fs2, x2_, e2, f2, hF⟩ := gI_s hF
  refine h_get (C := RJ17) (T := TJ17) (N := 3) hx hb hts in_J17 hown hGr hr e2 (by decide) rfl 2 (by decide) (hts _ q622) (fun _ h9 => h9) f2 dJ17_pollLast_7 ?_
  refine lv_aload_n hx hb dJ17_pollLast_10 rfl (lv_at hl 0 rfl) ?_
  obtain ⟨k3, y3, e3, g3, hF⟩ := aL_s hF
  obtain ⟨x3_, ex3⟩ : ∃ z, z = Int32.ofNat y3.1 := ⟨_, rfl⟩
  rw [← ex3] at hF
  refine h_alen hx hb hGr hr e3 g3 dJ17_pollLast_11 ?_
  rw [← ex3]
  obtain ⟨r4, u4, e4, hF⟩ := bnd_s hF
  have mm4 : hle u4 out.2 := (show Mo u4 _ from mo_bnd (moJ17_elementAt u4 x1_ r4) hle_rf (fun r5 u5 m5 => mo_pV m5 (fun h6 m6 => mo_sN m6 (fun h7 m7 => mo_ret m7)))) _ hF
  obtain ⟨mc4, ms4, hmc4, hms4⟩ := up_of (moJ17_dec h x2_ x3_ _ e4)
  replace hc := cst_call hc hmc4 hms4
  refine h_calli (va_runS (As := [.int x2_, .int x3_]) (rest := [.ref x1_]) ⟨hx, hb, hml, hown, hts⟩ (mgJ17_dec l D A h x2_ x3_ _ e4 mc4 ms4 hmc4 hms4) (va_cwS 2 hts (lw_S q1955 q1956 q124 q1957) rfl rfl rfl (by decide +kernel) ⟨Nat.le_of_ble_eq_true rfl, Nat.le_of_ble_eq_true rfl⟩) (h_preS hGr hr hS _) rfl rfl hl.1 rfl (lv_room (Nat.le_of_ble_eq_true rfl)) dJ17_pollLast_12 ⟨(bud hc mm4 hmc hms).1, (bud hc mm4 hmc hms).2⟩) hS (fun rr uu H locs hw hr hS => ?_)
  obtain rfl : u4 = uu := (congrArg Prod.snd hw).symm
  obtain rfl : r4 = rr := (congrArg Prod.fst hw).symm
  refine lv_dup hx hb dJ17_pollLast_15 rfl ?_
  refine lv_istore_n (lv' := [(2, .int r4), (1, .ref x1_), (0, .ref a0)]) hx hb dJ17_pollLast_16 rfl hl (by decide) rfl (fun ls hl => ?_)
  obtain ⟨r5, u5, e5, hF⟩ := bnd_s hF
  have mm5 : hle u5 out.2 := (show Mo u5 _ from mo_pV hle_rf (fun h6 m6 => mo_sN m6 (fun h7 m7 => mo_ret m7))) _ hF
  obtain ⟨mc5, ms5, hmc5, hms5⟩ := up_of (moJ17_elementAt u4 x1_ r4 _ e5)
  replace hc := cst_call hc hmc5 hms5
  refine h_callr (va_runS (As := [.ref x1_, .int r4]) (rest := []) ⟨hx, hb, hml, hown, hts⟩ (mgJ17_elementAt l D A u4 x1_ r4 _ e5 mc5 ms5 hmc5 hms5) (va_cwS 2 hts (lw_S q789 q790 q124 q791) rfl rfl rfl (by decide +kernel) ⟨Nat.le_of_ble_eq_true rfl, Nat.le_of_ble_eq_true rfl⟩) (h_preS hGr hr hS _) rfl rfl hl.1 rfl (lv_room (Nat.le_of_ble_eq_true rfl)) dJ17_pollLast_17 ⟨(bud hc mm5 hmc hms).1, (bud hc mm5 hmc hms).2⟩) hS (fun rr uu H locs hw hr hS => ?_)
  obtain rfl : u5 = uu := (congrArg Prod.snd hw).symm
  obtain rfl : r5 = rr := (congrArg Prod.fst hw).symm
  refine lv_astore_n (lv' := [(3, .ref r5), (2, .int r4), (1, .ref x1_), (0, .ref a0)]) hx hb dJ17_pollLast_20 rfl hl (by decide) rfl (fun ls hl => ?_)
  refine lv_aload_n hx hb dJ17_pollLast_21 rfl (lv_at hl 0 rfl) ?_
  refine lv_ifnull hx hb dJ17_pollLast_22 ?_
  refine lv_aload_n hx hb dJ17_pollLast_25 rfl (lv_at hl 2 rfl) ?_
  refine lv_aload_n hx hb dJ17_pollLast_26 rfl (lv_at hl 3 rfl) ?_
  refine lv_iload_n hx hb dJ17_pollLast_27 rfl (lv_at hl 1 rfl) ?_
  refine lv_dup_x1 hx hb dJ17_pollLast_28 rfl rfl ?_
  obtain ⟨fs6, e6, k6, lo6, hF⟩ := pV_s hF
  obtain ⟨h6, eh6⟩ : ∃ z, z = hPut u5 a0 (.inr (11, fs6.set 2 (.int r4))) := ⟨_, rfl⟩
  rw [← eh6] at hF
  refine h_put (C := RJ17) (T := TJ17) (N := 3) hx hb hts in_J17 tyJ17 tyJ17_ok nmJ17 hown hGr hr hS e6 (by decide) rfl 2 (by decide) (hts _ q622) (fun _ h9 => h9) rfl (tyJ17_ok 2 (by decide)) rfl rfl k6 lo6 dJ17_pollLast_29 (fun H locs hr hS => ?_)
  rw [← eh6] at hr
  replace hc := cst_put hc eh6
  refine lv_null hx hb dJ17_pollLast_32 ?_
  obtain ⟨n7, f7, e7, lo7, kd7, g7, hF⟩ := sN_s hF
  obtain ⟨h7, eh7⟩ : ∃ z, z = hPut h6 x1_ (.inl (2, n7, .inr (.inr (.inr (.inr (va_up f7 (r4).toNatClampNeg none)))))) := ⟨_, rfl⟩
  rw [← eh7] at hF
  refine h_aastN hx hb hGr hr hS kd7 e7 g7 lo7 dJ17_pollLast_33 (fun H locs hr hS => ?_)
  rw [← eh7] at hr
  replace hc := cst_put hc eh7
  refine lv_aload_n hx hb dJ17_pollLast_34 rfl (lv_at hl 0 rfl) ?_
  have bz := bud_r hc hF hmc hms
  refine W.widen (k := mc) (n := ms) bz.1 bz.2 ?_
  exact W.aret (v := .ref r5) hx hb hret (Or.inl ⟨_, rfl⟩) (Or.inr ⟨_, rfl⟩) (fun t ht hWm => ⟨⟨h7, r5, rfl, trivial, Option.some.inj hF, h_end hGr hr hS ht hWm⟩, hS.F ht⟩) hS.2.2 dJ17_pollLast_35

def GJ17_removeFirst (h : Hp) (a0 : Nat) : Option (Nat × Hp) := gC h a0 11 (bnd (GJ17_pollFirst h a0) (fun r1 u1 => some (r1, u1)))
theorem moJ17_removeFirst (h : Hp) (a0 : Nat) : Mo h (GJ17_removeFirst h a0) := by
  unfold GJ17_removeFirst
  exact mo_gC (mo_bnd (moJ17_pollFirst h a0) hle_rf (fun r1 u1 m1 => mo_ret m1))
set_option maxHeartbeats 4000000 in
set_option maxRecDepth 100000 in
theorem mgJ17_removeFirst (l : Launch) (D : HD) (A : Nat → Prop) (h : Hp) (a0 : Nat) (out : Nat × Hp) (hF : GJ17_removeFirst h a0 = some out) (mc ms : Nat) (hmc : hCc out.2 = hCc h + mc) (hms : hSl out.2 = hSl h + ms) : Met l yJ17_removeFirst (ws_ yJ17_removeFirst cJ17_removeFirst 2 (some (.object "java/lang/Object"))) ({ frames := 2, cells := mc, slots := ms, locals := 44 }) (va_Pc [.ref a0] (hW D A h)) (va_Qr (fun _ : Hp => True) (fun u r t => (r, u) = out ∧ hW D A u t) A) mc ms A := by
  refine va_MetF (cc := cJ17_removeFirst) (maxL := 2) (ret := (some (.object "java/lang/Object"))) (by decide +kernel) rfl ?_
  intro p e s m args below meth c s₁ B hml hv
  obtain ⟨rfl, hr, hGr⟩ := hv
  have hx := B.exec
  have hb := B.bytes
  have hret := B.returns
  have hts := atoms_spec (ws := (ws_ yJ17_removeFirst cJ17_removeFirst 2 (some (.object "java/lang/Object")))) B.pre
  have hts : ∀ w ∈ lw_all, w.before _ s = true := fun w h => hts w (List.mem_cons_of_mem _ h)
  have hown : s.vm.findClass RJ17 = some m.cls := findClass_of_methodNamed B.named
  have hlocks := B.notSynchronized
  have hS : va_S A s.heap s.heap [] := va_S.rf
  have hc : cst h 0 0 h := cst_0
  have hl := lv_entry ([.ref a0]) (n := 2) (Nat.le_of_ble_eq_true rfl)
  rw [lg_entry_eq]
  generalize (lg_sl ([.ref a0]) ++ List.replicate (2 - (lg_sl ([.ref a0])).length) Slot.unset).toArray = ls at hl ⊢
  have hl : lv_has ls 2 [(0, .ref a0)] := hl
  unfold GJ17_removeFirst at hF
  refine lv_aload_n hx hb dJ17_removeFirst_0 rfl (lv_at hl 0 rfl) ?_
  obtain ⟨fc1, ec1, hF⟩ := gC_s hF
  obtain ⟨r1, u1, e1, hF⟩ := bnd_s hF
  have mm1 : hle u1 out.2 := (show Mo u1 _ from mo_ret hle_rf) _ hF
  obtain ⟨mc1, ms1, hmc1, hms1⟩ := up_of (moJ17_pollFirst h a0 _ e1)
  replace hc := cst_call hc hmc1 hms1
  refine h_callr (va_runV (As := []) (rest := []) ⟨hx, hb, hml, hown, hts⟩ (mgJ17_pollFirst l D A h a0 _ e1 mc1 ms1 hmc1 hms1) (cwV 0 hts (lw_V q785 q786 q787 q124 q788) rfl rfl rfl (by decide +kernel) ⟨Nat.le_of_ble_eq_true rfl, Nat.le_of_ble_eq_true rfl⟩) (h_preV hGr hr hS ec1 (by decide) (q := (RJ17, TJ17, 3)) rfl _) rfl rfl hl.1 rfl (lv_room (Nat.le_of_ble_eq_true rfl)) dJ17_removeFirst_1 ⟨(bud hc mm1 hmc hms).1, (bud hc mm1 hmc hms).2⟩) hS (fun rr uu H locs hw hr hS => ?_)
  obtain rfl : u1 = uu := (congrArg Prod.snd hw).symm
  obtain rfl : r1 = rr := (congrArg Prod.fst hw).symm
  refine lv_astore_n (lv' := [(1, .ref r1), (0, .ref a0)]) hx hb dJ17_removeFirst_4 rfl hl (by decide) rfl (fun ls hl => ?_)
  refine lv_aload_n hx hb dJ17_removeFirst_5 rfl (lv_at hl 0 rfl) ?_
  refine lv_ifnonnull (tgt := 17) hx hb dJ17_removeFirst_6 (by decide) ?_
  refine lv_aload_n hx hb dJ17_removeFirst_17 rfl (lv_at hl 0 rfl) ?_
  have bz := bud_r hc hF hmc hms
  refine W.widen (k := mc) (n := ms) bz.1 bz.2 ?_
  exact W.aret (v := .ref r1) hx hb hret (Or.inl ⟨_, rfl⟩) (Or.inr ⟨_, rfl⟩) (fun t ht hWm => ⟨⟨u1, r1, rfl, trivial, Option.some.inj hF, h_end hGr hr hS ht hWm⟩, hS.F ht⟩) hS.2.2 dJ17_removeFirst_18

def GJ17_removeLast (h : Hp) (a0 : Nat) : Option (Nat × Hp) := gC h a0 11 (bnd (GJ17_pollLast h a0) (fun r1 u1 => some (r1, u1)))
theorem moJ17_removeLast (h : Hp) (a0 : Nat) : Mo h (GJ17_removeLast h a0) := by
  unfold GJ17_removeLast
  exact mo_gC (mo_bnd (moJ17_pollLast h a0) hle_rf (fun r1 u1 m1 => mo_ret m1))
set_option maxHeartbeats 4000000 in
set_option maxRecDepth 100000 in
theorem mgJ17_removeLast (l : Launch) (D : HD) (A : Nat → Prop) (h : Hp) (a0 : Nat) (out : Nat × Hp) (hF : GJ17_removeLast h a0 = some out) (mc ms : Nat) (hmc : hCc out.2 = hCc h + mc) (hms : hSl out.2 = hSl h + ms) : Met l yJ17_removeLast (ws_ yJ17_removeLast cJ17_removeLast 2 (some (.object "java/lang/Object"))) ({ frames := 2, cells := mc, slots := ms, locals := 44 }) (va_Pc [.ref a0] (hW D A h)) (va_Qr (fun _ : Hp => True) (fun u r t => (r, u) = out ∧ hW D A u t) A) mc ms A := by
  refine va_MetF (cc := cJ17_removeLast) (maxL := 2) (ret := (some (.object "java/lang/Object"))) (by decide +kernel) rfl ?_
  intro p e s m args below meth c s₁ B hml hv
  obtain ⟨rfl, hr, hGr⟩ := hv
  have hx := B.exec
  have hb := B.bytes
  have hret := B.returns
  have hts := atoms_spec (ws := (ws_ yJ17_removeLast cJ17_removeLast 2 (some (.object "java/lang/Object")))) B.pre
  have hts : ∀ w ∈ lw_all, w.before _ s = true := fun w h => hts w (List.mem_cons_of_mem _ h)
  have hown : s.vm.findClass RJ17 = some m.cls := findClass_of_methodNamed B.named
  have hlocks := B.notSynchronized
  have hS : va_S A s.heap s.heap [] := va_S.rf
  have hc : cst h 0 0 h := cst_0
  have hl := lv_entry ([.ref a0]) (n := 2) (Nat.le_of_ble_eq_true rfl)
  rw [lg_entry_eq]
  generalize (lg_sl ([.ref a0]) ++ List.replicate (2 - (lg_sl ([.ref a0])).length) Slot.unset).toArray = ls at hl ⊢
  have hl : lv_has ls 2 [(0, .ref a0)] := hl
  unfold GJ17_removeLast at hF
  refine lv_aload_n hx hb dJ17_removeLast_0 rfl (lv_at hl 0 rfl) ?_
  obtain ⟨fc1, ec1, hF⟩ := gC_s hF
  obtain ⟨r1, u1, e1, hF⟩ := bnd_s hF
  have mm1 : hle u1 out.2 := (show Mo u1 _ from mo_ret hle_rf) _ hF
  obtain ⟨mc1, ms1, hmc1, hms1⟩ := up_of (moJ17_pollLast h a0 _ e1)
  replace hc := cst_call hc hmc1 hms1
  refine h_callr (va_runV (As := []) (rest := []) ⟨hx, hb, hml, hown, hts⟩ (mgJ17_pollLast l D A h a0 _ e1 mc1 ms1 hmc1 hms1) (cwV 0 hts (lw_V q1951 q1952 q1953 q124 q1954) rfl rfl rfl (by decide +kernel) ⟨Nat.le_of_ble_eq_true rfl, Nat.le_of_ble_eq_true rfl⟩) (h_preV hGr hr hS ec1 (by decide) (q := (RJ17, TJ17, 3)) rfl _) rfl rfl hl.1 rfl (lv_room (Nat.le_of_ble_eq_true rfl)) dJ17_removeLast_1 ⟨(bud hc mm1 hmc hms).1, (bud hc mm1 hmc hms).2⟩) hS (fun rr uu H locs hw hr hS => ?_)
  obtain rfl : u1 = uu := (congrArg Prod.snd hw).symm
  obtain rfl : r1 = rr := (congrArg Prod.fst hw).symm
  refine lv_astore_n (lv' := [(1, .ref r1), (0, .ref a0)]) hx hb dJ17_removeLast_4 rfl hl (by decide) rfl (fun ls hl => ?_)
  refine lv_aload_n hx hb dJ17_removeLast_5 rfl (lv_at hl 0 rfl) ?_
  refine lv_ifnonnull (tgt := 17) hx hb dJ17_removeLast_6 (by decide) ?_
  refine lv_aload_n hx hb dJ17_removeLast_17 rfl (lv_at hl 0 rfl) ?_
  have bz := bud_r hc hF hmc hms
  refine W.widen (k := mc) (n := ms) bz.1 bz.2 ?_
  exact W.aret (v := .ref r1) hx hb hret (Or.inl ⟨_, rfl⟩) (Or.inr ⟨_, rfl⟩) (fun t ht hWm => ⟨⟨u1, r1, rfl, trivial, Option.some.inj hF, h_end hGr hr hS ht hWm⟩, hS.F ht⟩) hS.2.2 dJ17_removeLast_18

def GJ17_addLast (h : Hp) (a0 : Nat) (a1 : Nat) : Option (Int32 × Hp) := gQ h a0 11 0 (fun x1_ => gI h a0 11 2 (fun x2_ => sQ h x1_ 2 x2_ a1 (fun h3 => gI h3 a0 11 1 (fun x4_ => gI h3 a0 11 2 (fun x5_ => aL h3 x1_ (fun x6_ => bnd (GJ17_inc h3 x5_ x6_) (fun r7 u7 => pV u7 a0 11 2 (.int r7) (fun h8 => if x4_ = r7 then none else some (0, h8)))))))))
theorem moJ17_addLast (h : Hp) (a0 : Nat) (a1 : Nat) : Mo h (GJ17_addLast h a0 a1) := by
  unfold GJ17_addLast
  exact mo_gQ (fun x1_ => mo_gI (fun x2_ => mo_sQ hle_rf (fun h3 m3 => mo_gI (fun x4_ => mo_gI (fun x5_ => mo_aL (fun x6_ => mo_bnd (moJ17_inc h3 x5_ x6_) m3 (fun r7 u7 m7 => mo_pV m7 (fun h8 m8 => mo_ite (mo_no) (mo_ret m8)))))))))
set_option maxHeartbeats 4000000 in
set_option maxRecDepth 100000 in
theorem mgJ17_addLast (l : Launch) (D : HD) (A : Nat → Prop) (h : Hp) (a0 : Nat) (a1 : Nat) (out : Int32 × Hp) (hF : GJ17_addLast h a0 a1 = some out) (mc ms : Nat) (hmc : hCc out.2 = hCc h + mc) (hms : hSl out.2 = hSl h + ms) : Met l yJ17_addLast (ws_ yJ17_addLast cJ17_addLast 3 none) ({ frames := 1, cells := mc, slots := ms, locals := 21 }) (va_Pc [.ref a0, .ref a1] (hW D A h)) (va_Qv (fun u => (0, u) = out) (hW D A) A) mc ms A := by
  refine va_MetF (cc := cJ17_addLast) (maxL := 3) (ret := none) (by decide +kernel) rfl ?_
  intro p e s m args below meth c s₁ B hml hv
  obtain ⟨rfl, hr, hGr⟩ := hv
  have hx := B.exec
  have hb := B.bytes
  have hret := B.returns
  have hts := atoms_spec (ws := (ws_ yJ17_addLast cJ17_addLast 3 none)) B.pre
  have hts : ∀ w ∈ lw_all, w.before _ s = true := fun w h => hts w (List.mem_cons_of_mem _ h)
  have hown : s.vm.findClass RJ17 = some m.cls := findClass_of_methodNamed B.named
  have hlocks := B.notSynchronized
  have hS : va_S A s.heap s.heap [] := va_S.rf
  have hc : cst h 0 0 h := cst_0
  have hl := lv_entry ([.ref a0, .ref a1]) (n := 3) (Nat.le_of_ble_eq_true rfl)
  rw [lg_entry_eq]
  generalize (lg_sl ([.ref a0, .ref a1]) ++ List.replicate (3 - (lg_sl ([.ref a0, .ref a1])).length) Slot.unset).toArray = ls at hl ⊢
  have hl : lv_has ls 3 [(0, .ref a0), (1, .ref a1)] := hl
  unfold GJ17_addLast at hF
  refine lv_aload_n hx hb dJ17_addLast_0 rfl (lv_at hl 1 rfl) ?_
  refine lv_ifnonnull (tgt := 12) hx hb dJ17_addLast_1 (by decide) ?_
  refine lv_aload_n hx hb dJ17_addLast_12 rfl (lv_at hl 0 rfl) ?_
  obtain ⟨fs1, x1_, e1, f1, hF⟩ := gQ_s hF
  refine h_get (C := RJ17) (T := TJ17) (N := 3) hx hb hts in_J17 hown hGr hr e1 (by decide) rfl 0 (by decide) (hts _ q620) (fun _ h9 => h9) f1 dJ17_addLast_13 ?_
  refine lv_astore_n (lv' := [(2, .ref x1_), (0, .ref a0), (1, .ref a1)]) hx hb dJ17_addLast_16 rfl hl (by decide) rfl (fun ls hl => ?_)
  refine lv_aload_n hx hb dJ17_addLast_17 rfl (lv_at hl 0 rfl) ?_
  refine lv_aload_n hx hb dJ17_addLast_18 rfl (lv_at hl 1 rfl) ?_
  obtain ⟨fs2, x2_, e2, f2, hF⟩ := gI_s hF
  refine h_get (C := RJ17) (T := TJ17) (N := 3) hx hb hts in_J17 hown hGr hr e2 (by decide) rfl 2 (by decide) (hts _ q622) (fun _ h9 => h9) f2 dJ17_addLast_19 ?_
  refine lv_aload_n hx hb dJ17_addLast_22 rfl (lv_at hl 2 rfl) ?_
  obtain ⟨n3, f3, cv3, fv3, e3, ev3, lo3, ok3, kd3, g3, hF⟩ := sQ_s hF
  obtain ⟨h3, eh3⟩ : ∃ z, z = hPut h x1_ (.inl (2, n3, .inr (.inr (.inr (.inr (va_up f3 (x2_).toNatClampNeg (some a1))))))) := ⟨_, rfl⟩
  rw [← eh3] at hF
  refine h_aastQ hx hb hGr hr hS e3 ev3 lo3 ok3 kd3 g3 dJ17_addLast_23 (fun H locs hr hS => ?_)
  rw [← eh3] at hr
  replace hc := cst_put hc eh3
  refine lv_aload_n hx hb dJ17_addLast_24 rfl (lv_at hl 1 rfl) ?_
  obtain ⟨fs4, x4_, e4, f4, hF⟩ := gI_s hF
  refine h_get (C := RJ17) (T := TJ17) (N := 3) hx hb hts in_J17 hown hGr hr e4 (by decide) rfl 1 (by decide) (hts _ q621) (fun _ h9 => h9) f4 dJ17_addLast_25 ?_
  refine lv_aload_n hx hb dJ17_addLast_28 rfl (lv_at hl 1 rfl) ?_
  refine lv_aload_n hx hb dJ17_addLast_29 rfl (lv_at hl 1 rfl) ?_
  obtain ⟨fs5, x5_, e5, f5, hF⟩ := gI_s hF
  refine h_get (C := RJ17) (T := TJ17) (N := 3) hx hb hts in_J17 hown hGr hr e5 (by decide) rfl 2 (by decide) (hts _ q622) (fun _ h9 => h9) f5 dJ17_addLast_30 ?_
  refine lv_aload_n hx hb dJ17_addLast_33 rfl (lv_at hl 0 rfl) ?_
  obtain ⟨k6, y6, e6, g6, hF⟩ := aL_s hF
  obtain ⟨x6_, ex6⟩ : ∃ z, z = Int32.ofNat y6.1 := ⟨_, rfl⟩
  rw [← ex6] at hF
  refine h_alen hx hb hGr hr e6 g6 dJ17_addLast_34 ?_
  rw [← ex6]
  obtain ⟨r7, u7, e7, hF⟩ := bnd_s hF
  have mm7 : hle u7 out.2 := (show Mo u7 _ from mo_pV hle_rf (fun h8 m8 => mo_ite (mo_no) (mo_ret m8))) _ hF
  obtain ⟨mc7, ms7, hmc7, hms7⟩ := up_of (moJ17_inc h3 x5_ x6_ _ e7)
  replace hc := cst_call hc hmc7 hms7
  refine h_calli (va_runS (As := [.int x5_, .int x6_]) (rest := [.ref a0, .int x4_]) ⟨hx, hb, hml, hown, hts⟩ (mgJ17_inc l D A h3 x5_ x6_ _ e7 mc7 ms7 hmc7 hms7) (va_cwS 2 hts (lw_S q792 q793 q124 q794) rfl rfl rfl (by decide +kernel) ⟨Nat.le_of_ble_eq_true rfl, Nat.le_of_ble_eq_true rfl⟩) (h_preS hGr hr hS _) rfl rfl hl.1 rfl (lv_room (Nat.le_of_ble_eq_true rfl)) dJ17_addLast_35 ⟨(bud hc mm7 hmc hms).1, (bud hc mm7 hmc hms).2⟩) hS (fun rr uu H locs hw hr hS => ?_)
  obtain rfl : u7 = uu := (congrArg Prod.snd hw).symm
  obtain rfl : r7 = rr := (congrArg Prod.fst hw).symm
  refine lv_dup_x1 hx hb dJ17_addLast_38 rfl rfl ?_
  obtain ⟨fs8, e8, k8, lo8, hF⟩ := pV_s hF
  obtain ⟨h8, eh8⟩ : ∃ z, z = hPut u7 a0 (.inr (11, fs8.set 2 (.int r7))) := ⟨_, rfl⟩
  rw [← eh8] at hF
  refine h_put (C := RJ17) (T := TJ17) (N := 3) hx hb hts in_J17 tyJ17 tyJ17_ok nmJ17 hown hGr hr hS e8 (by decide) rfl 2 (by decide) (hts _ q622) (fun _ h9 => h9) rfl (tyJ17_ok 2 (by decide)) rfl rfl k8 lo8 dJ17_addLast_39 (fun H locs hr hS => ?_)
  rw [← eh8] at hr
  replace hc := cst_put hc eh8
  refine lv_icmp_ne (tgt := 50) hx hb dJ17_addLast_42 (by decide) (fun c9 => ?_) (fun c9 => ?_)
  · replace hF := it_f c9 hF
    have bz := bud_r hc hF hmc hms
    refine W.widen (k := mc) (n := ms) bz.1 bz.2 ?_
    exact W.vret hx hb hret (fun t ht hWm => ⟨⟨h8, rfl, Option.some.inj hF, h_end hGr hr hS ht hWm⟩, hS.F ht⟩) hS.2.2 dJ17_addLast_50
  · replace hF := it_t c9 hF
    exact nomatch hF
