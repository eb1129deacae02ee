/-! the component and what it calls of the library, walked by program (tool/dc.py): G.. the pure function, mo.. its growth, mg.. the contract -/
def GX1_requireIndex (h : Hp) (p0 : Int32) (p1 : Int32) : Option ((Int32 ⊕ Xq) × Hp) := bnd (GX1_inRange h ((p0).toInt64) (0 : Int64) (((p1 - 1)).toInt64)) (fun r1 u1 => if r1 = 0 then some (.inr (0, 0), hX u1) else some (.inl 0, u1))
theorem moX1_requireIndex (h : Hp) (p0 : Int32) (p1 : Int32) : Mo h (GX1_requireIndex h p0 p1) := by
  unfold GX1_requireIndex
  exact mo_bnd (moX1_inRange h ((p0).toInt64) (0 : Int64) (((p1 - 1)).toInt64)) hle_rf (fun r1 u1 m1 => mo_ite (mo_ret (hle_tr m1 hle_X)) (mo_ret m1))
set_option maxHeartbeats 4000000 in
set_option maxRecDepth 100000 in
theorem mgX1_requireIndex (l : Launch) (hl0 : l.stackTraces = false) (D : HD) (A : Nat → Prop) (h : Hp) (p0 : Int32) (p1 : Int32) (out : (Int32 ⊕ Xq) × Hp) (hF : GX1_requireIndex h p0 p1 = some out) (mc ms : Nat) (hmc : hCc out.2 = hCc h + mc) (hms : hSl out.2 = hSl h + ms) : vx_Met l yX1_requireIndex (ws_ yX1_requireIndex cX1_requireIndex 2 none) ({ frames := 6, cells := mc, slots := ms, locals := 100 }) (va_Pc [.int p0, .int p1] (hW D A h)) (va_Qv (fun u => ((.inl 0 : Int32 ⊕ Xq), u) = out) (hW D A) A) (xC D A out) mc ms A := by
  refine vx_ofW (cc := cX1_requireIndex) (maxL := 2) (ret := none) (by decide +kernel) rfl ?_
  intro p e s m args below meth c s₁ B hml htb hv
  obtain ⟨rfl, hr, hGr⟩ := hv
  have hx := B.exec
  have hb := B.bytes
  have hret := B.returns
  have hts := atoms_spec (ws := (ws_ yX1_requireIndex cX1_requireIndex 2 none)) B.pre
  have hts : ∀ w ∈ lw_all, w.before _ s = true := fun w h => hts w (List.mem_cons_of_mem _ h)
  have hown : s.vm.findClass RX1 = some m.cls := findClass_of_methodNamed B.named
  have hlocks := B.notSynchronized
  have hS : va_S A s.heap s.heap [] := va_S.rf
  have hc : cst h 0 0 h := cst_0
  have hl := lv_entry ([.int p0, .int p1]) (n := 2) (Nat.le_of_ble_eq_true rfl)
  rw [lg_entry_eq]
  generalize (lg_sl ([.int p0, .int p1]) ++ List.replicate (2 - (lg_sl ([.int p0, .int p1])).length) Slot.unset).toArray = ls at hl ⊢
  have hl : lv_has ls 2 [(0, .int p0), (1, .int p1)] := hl
  unfold GX1_requireIndex at hF
  refine lv_iload_n hx hb dX1_requireIndex_0 rfl (lv_at hl 0 rfl) ?_
  refine lv_i2l (v := (p0).toInt64) hx hb dX1_requireIndex_1 rfl ?_
  refine lv_lconst (v := 0) hx hb dX1_requireIndex_2 (by decide) ?_
  refine lv_iload_n hx hb dX1_requireIndex_3 rfl (lv_at hl 1 rfl) ?_
  refine lv_iconst (v := 1) hx hb dX1_requireIndex_4 (by decide) ?_
  refine lv_isub hx hb dX1_requireIndex_5 ?_
  refine lv_i2l (v := ((p1 - 1)).toInt64) hx hb dX1_requireIndex_6 rfl ?_
  obtain ⟨r1, u1, e1, hF⟩ := bnd_s hF
  have mm1 : hle u1 out.2 := (show Mo u1 _ from mo_ite (mo_ret (hle_tr hle_rf hle_X)) (mo_ret hle_rf)) _ hF
  obtain ⟨mc1, ms1, hmc1, hms1⟩ := up_of (moX1_inRange h ((p0).toInt64) (0 : Int64) (((p1 - 1)).toInt64) _ e1)
  replace hc := cst_call hc hmc1 hms1
  refine h_calli (va_runS (As := [.long ((p0).toInt64), .long (0 : Int64), .long (((p1 - 1)).toInt64)]) (rest := []) ⟨hx, hb, hml, hown, hts⟩ (mgX1_inRange l D A h ((p0).toInt64) (0 : Int64) (((p1 - 1)).toInt64) _ e1 mc1 ms1 hmc1 hms1) (va_cwS 3 hts (lw_S q1420 q1421 q101 q1422) rfl rfl rfl (by decide +kernel) ⟨Nat.le_of_ble_eq_true rfl, Nat.le_of_ble_eq_true rfl⟩) (h_preS hGr hr hS _) rfl rfl hl.1 rfl (lv_room (Nat.le_of_ble_eq_true rfl)) dX1_requireIndex_7 ⟨(bud hc mm1 hmc hms).1, (bud hc mm1 hmc hms).2⟩) hS (fun rr uu H locs hw hr hS => ?_)
  obtain rfl : u1 = uu := (congrArg Prod.snd hw).symm
  obtain rfl : r1 = rr := (congrArg Prod.fst hw).symm
  refine lv_if_ne (tgt := 21) hx hb dX1_requireIndex_10 (by decide) (fun c2 => ?_) (fun c2 => ?_)
  · replace hF := it_f c2 hF
    have bz := bud_r hc hF hmc hms
    refine vx_ret ?_
    refine W.widen (k := mc) (n := ms) bz.1 bz.2 ?_
    exact W.vret hx hb hret (fun t ht hWm => ⟨⟨u1, rfl, Option.some.inj hF, h_end hGr hr hS ht hWm⟩, hS.F ht⟩) hS.2.2 dX1_requireIndex_21
  · replace hF := it_t c2 hF
    exact h_throw (k := 0) (by decide) hx hb hl0 (by rw [hml]; exact hl.1.symm) hown (by decide +kernel) (hts _ q1696) (hts _ q128) (h_xat0 hts hGr) h_xgd0 hGr hr hS htb hlocks dX1_requireIndex_13 dX1_requireIndex_16 dX1_requireIndex_17 dX1_requireIndex_20 hc hF hmc hms (Nat.le_of_ble_eq_true rfl) (Nat.le_of_ble_eq_true rfl) (Nat.le_refl _) (Nat.le_refl _)

def GX1_requireArgument (h : Hp) (p0 : Int32) : Option ((Int32 ⊕ Xq) × Hp) := if p0 = 0 then some (.inr (1, 0), hX h) else some (.inl 0, h)
theorem moX1_requireArgument (h : Hp) (p0 : Int32) : Mo h (GX1_requireArgument h p0) := by
  unfold GX1_requireArgument
  exact mo_ite (mo_ret (hle_tr hle_rf hle_X)) (mo_ret hle_rf)
set_option maxHeartbeats 4000000 in
set_option maxRecDepth 100000 in
theorem mgX1_requireArgument (l : Launch) (hl0 : l.stackTraces = false) (D : HD) (A : Nat → Prop) (h : Hp) (p0 : Int32) (out : (Int32 ⊕ Xq) × Hp) (hF : GX1_requireArgument h p0 = some out) (mc ms : Nat) (hmc : hCc out.2 = hCc h + mc) (hms : hSl out.2 = hSl h + ms) : vx_Met l yX1_requireArgument (ws_ yX1_requireArgument cX1_requireArgument 1 none) ({ frames := 6, cells := mc, slots := ms, locals := 100 }) (va_Pc [.int p0] (hW D A h)) (va_Qv (fun u => ((.inl 0 : Int32 ⊕ Xq), u) = out) (hW D A) A) (xC D A out) mc ms A := by
  refine vx_ofW (cc := cX1_requireArgument) (maxL := 1) (ret := none) (by decide +kernel) rfl ?_
  intro p e s m args below meth c s₁ B hml htb hv
  obtain ⟨rfl, hr, hGr⟩ := hv
  have hx := B.exec
  have hb := B.bytes
  have hret := B.returns
  have hts := atoms_spec (ws := (ws_ yX1_requireArgument cX1_requireArgument 1 none)) B.pre
  have hts : ∀ w ∈ lw_all, w.before _ s = true := fun w h => hts w (List.mem_cons_of_mem _ h)
  have hown : s.vm.findClass RX1 = some m.cls := findClass_of_methodNamed B.named
  have hlocks := B.notSynchronized
  have hS : va_S A s.heap s.heap [] := va_S.rf
  have hc : cst h 0 0 h := cst_0
  have hl := lv_entry ([.int p0]) (n := 1) (Nat.le_of_ble_eq_true rfl)
  rw [lg_entry_eq]
  generalize (lg_sl ([.int p0]) ++ List.replicate (1 - (lg_sl ([.int p0])).length) Slot.unset).toArray = ls at hl ⊢
  have hl : lv_has ls 1 [(0, .int p0)] := hl
  unfold GX1_requireArgument at hF
  refine lv_iload_n hx hb dX1_requireArgument_0 rfl (lv_at hl 0 rfl) ?_
  refine lv_if_ne (tgt := 12) hx hb dX1_requireArgument_1 (by decide) (fun c1 => ?_) (fun c1 => ?_)
  · replace hF := it_f c1 hF
    have bz := bud_r hc hF hmc hms
    refine vx_ret ?_
    refine W.widen (k := mc) (n := ms) bz.1 bz.2 ?_
    exact W.vret hx hb hret (fun t ht hWm => ⟨⟨h, rfl, Option.some.inj hF, h_end hGr hr hS ht hWm⟩, hS.F ht⟩) hS.2.2 dX1_requireArgument_12
  · replace hF := it_t c1 hF
    exact h_throw (k := 1) (by decide) hx hb hl0 (by rw [hml]; exact hl.1.symm) hown (by decide +kernel) (hts _ q1426) (hts _ q110) (h_xat1 hts hGr) h_xgd1 hGr hr hS htb hlocks dX1_requireArgument_4 dX1_requireArgument_7 dX1_requireArgument_8 dX1_requireArgument_11 hc hF hmc hms (Nat.le_of_ble_eq_true rfl) (Nat.le_of_ble_eq_true rfl) (Nat.le_refl _) (Nat.le_refl _)

def GX1_requireState (h : Hp) (p0 : Int32) : Option ((Int32 ⊕ Xq) × Hp) := if p0 = 0 then some (.inr (2, 0), hX h) else some (.inl 0, h)
theorem moX1_requireState (h : Hp) (p0 : Int32) : Mo h (GX1_requireState h p0) := by
  unfold GX1_requireState
  exact mo_ite (mo_ret (hle_tr hle_rf hle_X)) (mo_ret hle_rf)
set_option maxHeartbeats 4000000 in
set_option maxRecDepth 100000 in
theorem mgX1_requireState (l : Launch) (hl0 : l.stackTraces = false) (D : HD) (A : Nat → Prop) (h : Hp) (p0 : Int32) (out : (Int32 ⊕ Xq) × Hp) (hF : GX1_requireState h p0 = some out) (mc ms : Nat) (hmc : hCc out.2 = hCc h + mc) (hms : hSl out.2 = hSl h + ms) : vx_Met l yX1_requireState (ws_ yX1_requireState cX1_requireState 1 none) ({ frames := 6, cells := mc, slots := ms, locals := 100 }) (va_Pc [.int p0] (hW D A h)) (va_Qv (fun u => ((.inl 0 : Int32 ⊕ Xq), u) = out) (hW D A) A) (xC D A out) mc ms A := by
  refine vx_ofW (cc := cX1_requireState) (maxL := 1) (ret := none) (by decide +kernel) rfl ?_
  intro p e s m args below meth c s₁ B hml htb hv
  obtain ⟨rfl, hr, hGr⟩ := hv
  have hx := B.exec
  have hb := B.bytes
  have hret := B.returns
  have hts := atoms_spec (ws := (ws_ yX1_requireState cX1_requireState 1 none)) B.pre
  have hts : ∀ w ∈ lw_all, w.before _ s = true := fun w h => hts w (List.mem_cons_of_mem _ h)
  have hown : s.vm.findClass RX1 = some m.cls := findClass_of_methodNamed B.named
  have hlocks := B.notSynchronized
  have hS : va_S A s.heap s.heap [] := va_S.rf
  have hc : cst h 0 0 h := cst_0
  have hl := lv_entry ([.int p0]) (n := 1) (Nat.le_of_ble_eq_true rfl)
  rw [lg_entry_eq]
  generalize (lg_sl ([.int p0]) ++ List.replicate (1 - (lg_sl ([.int p0])).length) Slot.unset).toArray = ls at hl ⊢
  have hl : lv_has ls 1 [(0, .int p0)] := hl
  unfold GX1_requireState at hF
  refine lv_iload_n hx hb dX1_requireState_0 rfl (lv_at hl 0 rfl) ?_
  refine lv_if_ne (tgt := 12) hx hb dX1_requireState_1 (by decide) (fun c1 => ?_) (fun c1 => ?_)
  · replace hF := it_f c1 hF
    have bz := bud_r hc hF hmc hms
    refine vx_ret ?_
    refine W.widen (k := mc) (n := ms) bz.1 bz.2 ?_
    exact W.vret hx hb hret (fun t ht hWm => ⟨⟨h, rfl, Option.some.inj hF, h_end hGr hr hS ht hWm⟩, hS.F ht⟩) hS.2.2 dX1_requireState_12
  · replace hF := it_t c1 hF
    exact h_throw (k := 2) (by decide) hx hb hl0 (by rw [hml]; exact hl.1.symm) hown (by decide +kernel) (hts _ q1329) (hts _ q126) (h_xat2 hts hGr) h_xgd2 hGr hr hS htb hlocks dX1_requireState_4 dX1_requireState_7 dX1_requireState_8 dX1_requireState_11 hc hF hmc hms (Nat.le_of_ble_eq_true rfl) (Nat.le_of_ble_eq_true rfl) (Nat.le_refl _) (Nat.le_refl _)

def GX1_requireElement (h : Hp) (p0 : Int32) : Option ((Int32 ⊕ Xq) × Hp) := if p0 = 0 then some (.inr (3, 0), hX h) else some (.inl 0, h)
theorem moX1_requireElement (h : Hp) (p0 : Int32) : Mo h (GX1_requireElement h p0) := by
  unfold GX1_requireElement
  exact mo_ite (mo_ret (hle_tr hle_rf hle_X)) (mo_ret hle_rf)
set_option maxHeartbeats 4000000 in
set_option maxRecDepth 100000 in
theorem mgX1_requireElement (l : Launch) (hl0 : l.stackTraces = false) (D : HD) (A : Nat → Prop) (h : Hp) (p0 : Int32) (out : (Int32 ⊕ Xq) × Hp) (hF : GX1_requireElement h p0 = some out) (mc ms : Nat) (hmc : hCc out.2 = hCc h + mc) (hms : hSl out.2 = hSl h + ms) : vx_Met l yX1_requireElement (ws_ yX1_requireElement cX1_requireElement 1 none) ({ frames := 6, cells := mc, slots := ms, locals := 100 }) (va_Pc [.int p0] (hW D A h)) (va_Qv (fun u => ((.inl 0 : Int32 ⊕ Xq), u) = out) (hW D A) A) (xC D A out) mc ms A := by
  refine vx_ofW (cc := cX1_requireElement) (maxL := 1) (ret := none) (by decide +kernel) rfl ?_
  intro p e s m args below meth c s₁ B hml htb hv
  obtain ⟨rfl, hr, hGr⟩ := hv
  have hx := B.exec
  have hb := B.bytes
  have hret := B.returns
  have hts := atoms_spec (ws := (ws_ yX1_requireElement cX1_requireElement 1 none)) B.pre
  have hts : ∀ w ∈ lw_all, w.before _ s = true := fun w h => hts w (List.mem_cons_of_mem _ h)
  have hown : s.vm.findClass RX1 = some m.cls := findClass_of_methodNamed B.named
  have hlocks := B.notSynchronized
  have hS : va_S A s.heap s.heap [] := va_S.rf
  have hc : cst h 0 0 h := cst_0
  have hl := lv_entry ([.int p0]) (n := 1) (Nat.le_of_ble_eq_true rfl)
  rw [lg_entry_eq]
  generalize (lg_sl ([.int p0]) ++ List.replicate (1 - (lg_sl ([.int p0])).length) Slot.unset).toArray = ls at hl ⊢
  have hl : lv_has ls 1 [(0, .int p0)] := hl
  unfold GX1_requireElement at hF
  refine lv_iload_n hx hb dX1_requireElement_0 rfl (lv_at hl 0 rfl) ?_
  refine lv_if_ne (tgt := 12) hx hb dX1_requireElement_1 (by decide) (fun c1 => ?_) (fun c1 => ?_)
  · replace hF := it_f c1 hF
    have bz := bud_r hc hF hmc hms
    refine vx_ret ?_
    refine W.widen (k := mc) (n := ms) bz.1 bz.2 ?_
    exact W.vret hx hb hret (fun t ht hWm => ⟨⟨h, rfl, Option.some.inj hF, h_end hGr hr hS ht hWm⟩, hS.F ht⟩) hS.2.2 dX1_requireElement_12
  · replace hF := it_t c1 hF
    exact h_throw (k := 3) (by decide) hx hb hl0 (by rw [hml]; exact hl.1.symm) hown (by decide +kernel) (hts _ q1909) (hts _ q136) (h_xat3 hts hGr) h_xgd3 hGr hr hS htb hlocks dX1_requireElement_4 dX1_requireElement_7 dX1_requireElement_8 dX1_requireElement_11 hc hF hmc hms (Nat.le_of_ble_eq_true rfl) (Nat.le_of_ble_eq_true rfl) (Nat.le_refl _) (Nat.le_refl _)

def GX1_become (h : Hp) (a0 : Nat) (a1 : Nat) : Option (Int32 × Hp) := gQ h a0 1 1 (fun x1_ => gC h x1_ 11 (bnd (GJ17_size h x1_) (fun r2 u2 => if r2 = 8 then gQ u2 a0 1 1 (fun x8_ => gC u2 x8_ 11 (bnd (GJ17_removeFirst u2 x8_) (fun r9 u9 => gC u9 r9 2 (gQ u9 a0 1 1 (fun x11_ => gQ u9 a0 1 0 (fun x12_ => gC u9 x11_ 11 (bnd (GJ17_addLast u9 x11_ x12_) (fun r13 u13 => pV u13 a0 1 0 (.ref a1) (fun h14 => some (0, h14)))))))))) else gQ u2 a0 1 1 (fun x4_ => gQ u2 a0 1 0 (fun x5_ => gC u2 x4_ 11 (bnd (GJ17_addLast u2 x4_ x5_) (fun r6 u6 => pV u6 a0 1 0 (.ref a1) (fun h7 => some (0, h7)))))))))
theorem moX1_become (h : Hp) (a0 : Nat) (a1 : Nat) : Mo h (GX1_become h a0 a1) := by
  unfold GX1_become
  exact mo_gQ (fun x1_ => mo_gC (mo_bnd (moJ17_size h x1_) hle_rf (fun r2 u2 m2 => mo_ite (mo_gQ (fun x8_ => mo_gC (mo_bnd (moJ17_removeFirst u2 x8_) m2 (fun r9 u9 m9 => mo_gC (mo_gQ (fun x11_ => mo_gQ (fun x12_ => mo_gC (mo_bnd (moJ17_addLast u9 x11_ x12_) m9 (fun r13 u13 m13 => mo_pV m13 (fun h14 m14 => mo_ret m14)))))))))) (mo_gQ (fun x4_ => mo_gQ (fun x5_ => mo_gC (mo_bnd (moJ17_addLast u2 x4_ x5_) m2 (fun r6 u6 m6 => mo_pV m6 (fun h7 m7 => mo_ret m7)))))))))
set_option maxHeartbeats 4000000 in
set_option maxRecDepth 100000 in
theorem mgX1_become (l : Launch) (D : HD) (A : Nat → Prop) (h : Hp) (a0 : Nat) (a1 : Nat) (out : Int32 × Hp) (hF : GX1_become h a0 a1 = some out) (mc ms : Nat) (hmc : hCc out.2 = hCc h + mc) (hms : hSl out.2 = hSl h + ms) : Met l yX1_become (ws_ yX1_become cX1_become 3 none) ({ frames := 3, cells := mc, slots := ms, locals := 65 }) (va_Pc [.ref a0, .ref a1] (hW D A h)) (va_Qv (fun u => (0, u) = out) (hW D A) A) mc ms A := by
  refine Met.ofW (cc := cX1_become) (maxL := 3) (ret := none) (by decide +kernel) rfl ?_
  intro p e s m args below meth c s₁ B hml hv
  obtain ⟨rfl, hr, hGr⟩ := hv
  have hx := B.exec
  have hb := B.bytes
  have hret := B.returns
  have hts := atoms_spec (ws := (ws_ yX1_become cX1_become 3 none)) B.pre
  have hts : ∀ w ∈ lw_all, w.before _ s = true := fun w h => hts w (List.mem_cons_of_mem _ h)
  have hown : s.vm.findClass RX1 = some m.cls := findClass_of_methodNamed B.named
  have hlocks := B.notSynchronized
  have hS : va_S A s.heap s.heap [] := va_S.rf
  have hc : cst h 0 0 h := cst_0
  have hl := lv_entry ([.ref a0, .ref a1]) (n := 3) (Nat.le_of_ble_eq_true rfl)
  rw [lg_entry_eq]
  generalize (lg_sl ([.ref a0, .ref a1]) ++ List.replicate (3 - (lg_sl ([.ref a0, .ref a1])).length) Slot.unset).toArray = ls at hl ⊢
  have hl : lv_has ls 3 [(0, .ref a0), (1, .ref a1)] := hl
  unfold GX1_become at hF
  refine lv_aload_n hx hb dX1_become_0 rfl (lv_at hl 0 rfl) ?_
  obtain ⟨fs1, x1_, e1, f1, hF⟩ := gQ_s hF
  refine h_get (C := RX1) (T := TX1) (N := 7) hx hb hts in_X1 hown hGr hr e1 (by decide) rfl 1 (by decide) (hts _ q634) (fun _ h9 => h9) f1 dX1_become_1 ?_
  obtain ⟨fc2, ec2, hF⟩ := gC_s hF
  obtain ⟨r2, u2, e2, hF⟩ := bnd_s hF
  have mm2 : hle u2 out.2 := (show Mo u2 _ from mo_ite (mo_gQ (fun x8_ => mo_gC (mo_bnd (moJ17_removeFirst u2 x8_) hle_rf (fun r9 u9 m9 => mo_gC (mo_gQ (fun x11_ => mo_gQ (fun x12_ => mo_gC (mo_bnd (moJ17_addLast u9 x11_ x12_) m9 (fun r13 u13 m13 => mo_pV m13 (fun h14 m14 => mo_ret m14)))))))))) (mo_gQ (fun x4_ => mo_gQ (fun x5_ => mo_gC (mo_bnd (moJ17_addLast u2 x4_ x5_) hle_rf (fun r6 u6 m6 => mo_pV m6 (fun h7 m7 => mo_ret m7))))))) _ hF
  obtain ⟨mc2, ms2, hmc2, hms2⟩ := up_of (moJ17_size h x1_ _ e2)
  replace hc := cst_call hc hmc2 hms2
  refine h_calli (va_runV (As := []) (rest := []) ⟨hx, hb, hml, hown, hts⟩ (mgJ17_size l D A h x1_ _ e2 mc2 ms2 hmc2 hms2) (cwV 0 hts (lw_V q774 q775 q776 q124 q777) rfl rfl rfl (by decide +kernel) ⟨Nat.le_of_ble_eq_true rfl, Nat.le_of_ble_eq_true rfl⟩) (h_preV hGr hr hS ec2 (by decide) (q := (RJ17, TJ17, 3)) rfl _) rfl rfl hl.1 rfl (lv_room (Nat.le_of_ble_eq_true rfl)) dX1_become_4 ⟨(bud hc mm2 hmc hms).1, (bud hc mm2 hmc hms).2⟩) hS (fun rr uu H locs hw hr hS => ?_)
  obtain rfl : u2 = uu := (congrArg Prod.snd hw).symm
  obtain rfl : r2 = rr := (congrArg Prod.fst hw).symm
  refine lv_bipush (v := 8) hx hb dX1_become_7 (by decide) ?_
  refine lv_icmp_ne (tgt := 23) hx hb dX1_become_9 (by decide) (fun c3 => ?_) (fun c3 => ?_)
  · replace hF := it_f c3 hF
    refine lv_aload_n hx hb dX1_become_23 rfl (lv_at hl 0 rfl) ?_
    obtain ⟨fs4, x4_, e4, f4, hF⟩ := gQ_s hF
    refine h_get (C := RX1) (T := TX1) (N := 7) hx hb hts in_X1 hown hGr hr e4 (by decide) rfl 1 (by decide) (hts _ q634) (fun _ h9 => h9) f4 dX1_become_24 ?_
    refine lv_aload_n hx hb dX1_become_27 rfl (lv_at hl 0 rfl) ?_
    obtain ⟨fs5, x5_, e5, f5, hF⟩ := gQ_s hF
    refine h_get (C := RX1) (T := TX1) (N := 7) hx hb hts in_X1 hown hGr hr e5 (by decide) rfl 0 (by decide) (hts _ q633) (fun _ h9 => h9) f5 dX1_become_28 ?_
    obtain ⟨fc6, ec6, hF⟩ := gC_s hF
    obtain ⟨r6, u6, e6, hF⟩ := bnd_s hF
    have mm6 : hle u6 out.2 := (show Mo u6 _ from mo_pV hle_rf (fun h7 m7 => mo_ret m7)) _ hF
    obtain ⟨mc6, ms6, hmc6, hms6⟩ := up_of (moJ17_addLast u2 x4_ x5_ _ e6)
    replace hc := cst_call hc hmc6 hms6
    refine h_callv (va_runV (As := [.ref x5_]) (rest := []) ⟨hx, hb, hml, hown, hts⟩ (mgJ17_addLast l D A u2 x4_ x5_ _ e6 mc6 ms6 hmc6 hms6) (cwV 1 hts (lw_V q816 q817 q818 q124 q819) rfl rfl rfl (by decide +kernel) ⟨Nat.le_of_ble_eq_true rfl, Nat.le_of_ble_eq_true rfl⟩) (h_preV hGr hr hS ec6 (by decide) (q := (RJ17, TJ17, 3)) rfl _) rfl rfl hl.1 rfl (lv_room (Nat.le_of_ble_eq_true rfl)) dX1_become_31 ⟨(bud hc mm6 hmc hms).1, (bud hc mm6 hmc hms).2⟩) hS (fun uu H locs hw hr hS => ?_)
    obtain rfl : u6 = uu := (congrArg Prod.snd hw).symm
    refine lv_aload_n hx hb dX1_become_34 rfl (lv_at hl 0 rfl) ?_
    refine lv_aload_n hx hb dX1_become_35 rfl (lv_at hl 1 rfl) ?_
    obtain ⟨fs7, e7, k7, lo7, hF⟩ := pV_s hF
    obtain ⟨h7, eh7⟩ : ∃ z, z = hPut u6 a0 (.inr (1, fs7.set 0 (.ref a1))) := ⟨_, rfl⟩
    rw [← eh7] at hF
    refine h_put (C := RX1) (T := TX1) (N := 7) hx hb hts in_X1 tyX1 tyX1_ok nmX1 hown hGr hr hS e7 (by decide) rfl 0 (by decide) (hts _ q633) (fun _ h9 => h9) rfl (tyX1_ok 0 (by decide)) rfl rfl k7 lo7 dX1_become_36 (fun H locs hr hS => ?_)
    rw [← eh7] at hr
    replace hc := cst_put hc eh7
    have bz := bud_r hc hF hmc hms
    refine W.widen (k := mc) (n := ms) bz.1 bz.2 ?_
    exact W.vret hx hb hret (fun t ht hWm => ⟨⟨h7, rfl, Option.some.inj hF, h_end hGr hr hS ht hWm⟩, hS.F ht⟩) hS.2.2 dX1_become_39
  · replace hF := it_t c3 hF
    refine lv_aload_n hx hb dX1_become_12 rfl (lv_at hl 0 rfl) ?_
    obtain ⟨fs8, x8_, e8, f8, hF⟩ := gQ_s hF
    refine h_get (C := RX1) (T := TX1) (N := 7) hx hb hts in_X1 hown hGr hr e8 (by decide) rfl 1 (by decide) (hts _ q634) (fun _ h9 => h9) f8 dX1_become_13 ?_
    obtain ⟨fc9, ec9, hF⟩ := gC_s hF
    obtain ⟨r9, u9, e9, hF⟩ := bnd_s hF
    have mm9 : hle u9 out.2 := (show Mo u9 _ from mo_gC (mo_gQ (fun x11_ => mo_gQ (fun x12_ => mo_gC (mo_bnd (moJ17_addLast u9 x11_ x12_) hle_rf (fun r13 u13 m13 => mo_pV m13 (fun h14 m14 => mo_ret m14))))))) _ hF
    obtain ⟨mc9, ms9, hmc9, hms9⟩ := up_of (moJ17_removeFirst u2 x8_ _ e9)
    replace hc := cst_call hc hmc9 hms9
    refine h_callr (va_runV (As := []) (rest := []) ⟨hx, hb, hml, hown, hts⟩ (mgJ17_removeFirst l D A u2 x8_ _ e9 mc9 ms9 hmc9 hms9) (cwV 0 hts (lw_V q781 q782 q783 q124 q784) rfl rfl rfl (by decide +kernel) ⟨Nat.le_of_ble_eq_true rfl, Nat.le_of_ble_eq_true rfl⟩) (h_preV hGr hr hS ec9 (by decide) (q := (RJ17, TJ17, 3)) rfl _) rfl rfl hl.1 rfl (lv_room (Nat.le_of_ble_eq_true rfl)) dX1_become_16 ⟨(bud hc mm9 hmc hms).1, (bud hc mm9 hmc hms).2⟩) hS (fun rr uu H locs hw hr hS => ?_)
    obtain rfl : u9 = uu := (congrArg Prod.snd hw).symm
    obtain rfl : r9 = rr := (congrArg Prod.fst hw).symm
    obtain ⟨fs10, e10, hF⟩ := gC_s hF
    refine h_cast hx hb hown (hts _ q151) hGr hr e10 (by decide) (T := TX2) (N := 11) rfl dX1_become_19 ?_
    refine lv_astore_n (lv' := [(2, .ref r9), (0, .ref a0), (1, .ref a1)]) hx hb dX1_become_22 rfl hl (by decide) rfl (fun ls hl => ?_)
    refine lv_aload_n hx hb dX1_become_23 rfl (lv_at hl 1 rfl) ?_
    obtain ⟨fs11, x11_, e11, f11, hF⟩ := gQ_s hF
    refine h_get (C := RX1) (T := TX1) (N := 7) hx hb hts in_X1 hown hGr hr e11 (by decide) rfl 1 (by decide) (hts _ q634) (fun _ h9 => h9) f11 dX1_become_24 ?_
    refine lv_aload_n hx hb dX1_become_27 rfl (lv_at hl 1 rfl) ?_
    obtain ⟨fs12, x12_, e12, f12, hF⟩ := gQ_s hF
    refine h_get (C := RX1) (T := TX1) (N := 7) hx hb hts in_X1 hown hGr hr e12 (by decide) rfl 0 (by decide) (hts _ q633) (fun _ h9 => h9) f12 dX1_become_28 ?_
    obtain ⟨fc13, ec13, hF⟩ := gC_s hF
    obtain ⟨r13, u13, e13, hF⟩ := bnd_s hF
    have mm13 : hle u13 out.2 := (show Mo u13 _ from mo_pV hle_rf (fun h14 m14 => mo_ret m14)) _ hF
    obtain ⟨mc13, ms13, hmc13, hms13⟩ := up_of (moJ17_addLast u9 x11_ x12_ _ e13)
    replace hc := cst_call hc hmc13 hms13
    refine h_callv (va_runV (As := [.ref x12_]) (rest := []) ⟨hx, hb, hml, hown, hts⟩ (mgJ17_addLast l D A u9 x11_ x12_ _ e13 mc13 ms13 hmc13 hms13) (cwV 1 hts (lw_V q816 q817 q818 q124 q819) rfl rfl rfl (by decide +kernel) ⟨Nat.le_of_ble_eq_true rfl, Nat.le_of_ble_eq_true rfl⟩) (h_preV hGr hr hS ec13 (by decide) (q := (RJ17, TJ17, 3)) rfl _) rfl rfl hl.1 rfl (lv_room (Nat.le_of_ble_eq_true rfl)) dX1_become_31 ⟨(bud hc mm13 hmc hms).1, (bud hc mm13 hmc hms).2⟩) hS (fun uu H locs hw hr hS => ?_)
    obtain rfl : u13 = uu := (congrArg Prod.snd hw).symm
    refine lv_aload_n hx hb dX1_become_34 rfl (lv_at hl 1 rfl) ?_
    refine lv_aload_n hx hb dX1_become_35 rfl (lv_at hl 2 rfl) ?_
    obtain ⟨fs14, e14, k14, lo14, hF⟩ := pV_s hF
    obtain ⟨h14, eh14⟩ : ∃ z, z = hPut u13 a0 (.inr (1, fs14.set 0 (.ref a1))) := ⟨_, rfl⟩
    rw [← eh14] at hF
    refine h_put (C := RX1) (T := TX1) (N := 7) hx hb hts in_X1 tyX1 tyX1_ok nmX1 hown hGr hr hS e14 (by decide) rfl 0 (by decide) (hts _ q633) (fun _ h9 => h9) rfl (tyX1_ok 0 (by decide)) rfl rfl k14 lo14 dX1_become_36 (fun H locs hr hS => ?_)
    rw [← eh14] at hr
    replace hc := cst_put hc eh14
    have bz := bud_r hc hF hmc hms
    refine W.widen (k := mc) (n := ms) bz.1 bz.2 ?_
    exact W.vret hx hb hret (fun t ht hWm => ⟨⟨h14, rfl, Option.some.inj hF, h_end hGr hr hS ht hWm⟩, hS.F ht⟩) hS.2.2 dX1_become_39

def GX1_changed (n : Nat) (h : Hp) (a0 : Nat) : Option (Nat × Hp) := gQ h a0 1 0 (fun x1_ => gC h x1_ 2 (bnd (GX2_anew n h x1_) (fun r2 u2 => gC u2 a0 1 (bnd (GX1_become u2 a0 r2) (fun r3 u3 => gQ u3 a0 1 0 (fun x4_ => some (x4_, u3)))))))
theorem moX1_changed (n : Nat) (h : Hp) (a0 : Nat) : Mo h (GX1_changed n h a0) := by
  unfold GX1_changed
  exact mo_gQ (fun x1_ => mo_gC (mo_bnd (moX2_anew n h x1_) hle_rf (fun r2 u2 m2 => mo_gC (mo_bnd (moX1_become u2 a0 r2) m2 (fun r3 u3 m3 => mo_gQ (fun x4_ => mo_ret m3))))))
set_option maxHeartbeats 4000000 in
set_option maxRecDepth 100000 in
theorem mgX1_changed (l : Launch) (D : HD) (A : Nat → Prop) (h : Hp) (n : Nat) (a0 : Nat) (out : Nat × Hp) (hF : GX1_changed n h a0 = some out) (mc ms : Nat) (hmc : hCc out.2 = hCc h + mc) (hms : hSl out.2 = hSl h + ms) : Met l yX1_changed (ws_ yX1_changed cX1_changed 1 (some (.object "ExactChains$Process"))) ({ frames := 7, cells := mc, slots := ms, locals := 214 }) (va_Pc [.ref a0] (hW D A h)) (va_Qr (fun _ : Hp => True) (fun u r t => (r, u) = out ∧ hW D A u t) A) mc ms A := by
  refine Met.ofW (cc := cX1_changed) (maxL := 1) (ret := (some (.object "ExactChains$Process"))) (by decide +kernel) rfl ?_
  intro p e s m args below meth c s₁ B hml hv
  obtain ⟨rfl, hr, hGr⟩ := hv
  have hx := B.exec
  have hb := B.bytes
  have hret := B.returns
  have hts := atoms_spec (ws := (ws_ yX1_changed cX1_changed 1 (some (.object "ExactChains$Process")))) B.pre
  have hts : ∀ w ∈ lw_all, w.before _ s = true := fun w h => hts w (List.mem_cons_of_mem _ h)
  have hown : s.vm.findClass RX1 = some m.cls := findClass_of_methodNamed B.named
  have hlocks := B.notSynchronized
  have hS : va_S A s.heap s.heap [] := va_S.rf
  have hc : cst h 0 0 h := cst_0
  have hl := lv_entry ([.ref a0]) (n := 1) (Nat.le_of_ble_eq_true rfl)
  rw [lg_entry_eq]
  generalize (lg_sl ([.ref a0]) ++ List.replicate (1 - (lg_sl ([.ref a0])).length) Slot.unset).toArray = ls at hl ⊢
  have hl : lv_has ls 1 [(0, .ref a0)] := hl
  unfold GX1_changed at hF
  refine lv_aload_n hx hb dX1_changed_0 rfl (lv_at hl 0 rfl) ?_
  refine lv_aload_n hx hb dX1_changed_1 rfl (lv_at hl 0 rfl) ?_
  obtain ⟨fs1, x1_, e1, f1, hF⟩ := gQ_s hF
  refine h_get (C := RX1) (T := TX1) (N := 7) hx hb hts in_X1 hown hGr hr e1 (by decide) rfl 0 (by decide) (hts _ q633) (fun _ h9 => h9) f1 dX1_changed_2 ?_
  obtain ⟨fc2, ec2, hF⟩ := gC_s hF
  obtain ⟨r2, u2, e2, hF⟩ := bnd_s hF
  have mm2 : hle u2 out.2 := (show Mo u2 _ from mo_gC (mo_bnd (moX1_become u2 a0 r2) hle_rf (fun r3 u3 m3 => mo_gQ (fun x4_ => mo_ret m3)))) _ hF
  obtain ⟨mc2, ms2, hmc2, hms2⟩ := up_of (moX2_anew n h x1_ _ e2)
  replace hc := cst_call hc hmc2 hms2
  refine h_callr (va_runV (As := []) (rest := [.ref a0]) ⟨hx, hb, hml, hown, hts⟩ (mgX2_anew l D A h n x1_ _ e2 mc2 ms2 hmc2 hms2) (cwV 0 hts (lw_V q670 q671 q672 q102 q673) rfl rfl rfl (by decide +kernel) ⟨Nat.le_of_ble_eq_true rfl, Nat.le_of_ble_eq_true rfl⟩) (h_preV hGr hr hS ec2 (by decide) (q := (RX2, TX2, 11)) rfl _) rfl rfl hl.1 rfl (lv_room (Nat.le_of_ble_eq_true rfl)) dX1_changed_5 ⟨(bud hc mm2 hmc hms).1, (bud hc mm2 hmc hms).2⟩) hS (fun rr uu H locs hw hr hS => ?_)
  obtain rfl : u2 = uu := (congrArg Prod.snd hw).symm
  obtain rfl : r2 = rr := (congrArg Prod.fst hw).symm
  obtain ⟨fc3, ec3, hF⟩ := gC_s hF
  obtain ⟨r3, u3, e3, hF⟩ := bnd_s hF
  have mm3 : hle u3 out.2 := (show Mo u3 _ from mo_gQ (fun x4_ => mo_ret hle_rf)) _ hF
  obtain ⟨mc3, ms3, hmc3, hms3⟩ := up_of (moX1_become u2 a0 r2 _ e3)
  replace hc := cst_call hc hmc3 hms3
  refine h_callv (va_runV (As := [.ref r2]) (rest := []) ⟨hx, hb, hml, hown, hts⟩ (mgX1_become l D A u2 a0 r2 _ e3 mc3 ms3 hmc3 hms3) (cwV 1 hts (lw_V q770 q772 qs5 q101 q773) rfl rfl rfl (by decide +kernel) ⟨Nat.le_of_ble_eq_true rfl, Nat.le_of_ble_eq_true rfl⟩) (h_preV hGr hr hS ec3 (by decide) (q := (RX1, TX1, 7)) rfl _) rfl rfl hl.1 rfl (lv_room (Nat.le_of_ble_eq_true rfl)) dX1_changed_8 ⟨(bud hc mm3 hmc hms).1, (bud hc mm3 hmc hms).2⟩) hS (fun uu H locs hw hr hS => ?_)
  obtain rfl : u3 = uu := (congrArg Prod.snd hw).symm
  refine lv_aload_n hx hb dX1_changed_11 rfl (lv_at hl 0 rfl) ?_
  obtain ⟨fs4, x4_, e4, f4, hF⟩ := gQ_s hF
  refine h_get (C := RX1) (T := TX1) (N := 7) hx hb hts in_X1 hown hGr hr e4 (by decide) rfl 0 (by decide) (hts _ q633) (fun _ h9 => h9) f4 dX1_changed_12 ?_
  have bz := bud_r hc hF hmc hms
  refine W.widen (k := mc) (n := ms) bz.1 bz.2 ?_
  exact W.aret (v := .ref x4_) hx hb hret (Or.inl ⟨_, rfl⟩) (Or.inr ⟨_, rfl⟩) (fun t ht hWm => ⟨⟨u3, x4_, rfl, trivial, Option.some.inj hF, h_end hGr hr hS ht hWm⟩, hS.F ht⟩) hS.2.2 dX1_changed_15

def GX1_write_1 (R : Nat → Hp → Nat → Int32 → Int32 → Option (Int32 × Hp)) (n : Nat) (h : Hp) (b0 : Nat) (x1 : Int32) (x2 : Int32) : Option (Int32 × Hp) := if x2 < 0 then some (0, h) else gQ h b0 1 3 (fun x2_ => gI h b0 1 4 (fun x3_ => sI h x2_ 1 x3_ (vp_nar .byte (((x1 >>> (x2 &&& 31))).toInt8.toInt32)) (fun h4 => gI h4 b0 1 4 (fun x5_ => pV h4 b0 1 4 (.int (x5_ + 1)) (fun h6 => R 1 h6 b0 x1 (x2 + (-8)))))))
def GX1_write_r : Nat → Nat → Hp → Nat → Int32 → Int32 → Option (Int32 × Hp)
  | 0 => fun _ _ _ _ _ => none
  | n + 1 => fun k => match k with  | _ => GX1_write_1 (GX1_write_r n) n
def GX1_write_0 (R : Nat → Hp → Nat → Int32 → Int32 → Option (Int32 × Hp)) (n : Nat) (h : Hp) (a0 : Nat) (p1 : Int32) : Option (Int32 × Hp) := R 1 h a0 p1 (24 : Int32)
def GX1_write (n : Nat) (h : Hp) (a0 : Nat) (p1 : Int32) : Option (Int32 × Hp) := GX1_write_0 (GX1_write_r n) n h a0 p1
theorem moX1_write_r (n : Nat) : (∀ (h : Hp) (b0 : Nat) (x1 : Int32) (x2 : Int32), Mo h (GX1_write_r n 1 h b0 x1 x2)) := by
  induction n with
  | zero => exact (fun _ _ _ _ => mo_no)
  | succ n ih =>
    have ml1 := ih
    exact (fun h b0 x1 x2 => show Mo h (GX1_write_1 (GX1_write_r n) n h b0 x1 x2) from by unfold GX1_write_1; exact mo_ite (mo_ret hle_rf) (mo_gQ (fun x2_ => mo_gI (fun x3_ => mo_sI hle_rf (fun h4 m4 => mo_gI (fun x5_ => mo_pV m4 (fun h6 m6 => mo_tr m6 (ml1 h6 b0 x1 (x2 + (-8))))))))))
theorem moX1_write (n : Nat) (h : Hp) (a0 : Nat) (p1 : Int32) : Mo h (GX1_write n h a0 p1) := by
  have ml1 := moX1_write_r n
  unfold GX1_write GX1_write_0
  exact mo_tr hle_rf (ml1 h a0 p1 (24 : Int32))
set_option maxHeartbeats 4000000 in
set_option maxRecDepth 100000 in
theorem mgX1_write (l : Launch) (D : HD) (A : Nat → Prop) (h : Hp) (n : Nat) (a0 : Nat) (p1 : Int32) (out : Int32 × Hp) (hF : GX1_write n h a0 p1 = some out) (mc ms : Nat) (hmc : hCc out.2 = hCc h + mc) (hms : hSl out.2 = hSl h + ms) : Met l yX1_write (ws_ yX1_write cX1_write 3 none) ({ frames := 0, cells := mc, slots := ms, locals := 0 }) (va_Pc [.ref a0, .int p1] (hW D A h)) (va_Qv (fun u => (0, u) = out) (hW D A) A) mc ms A := by
  refine Met.ofW (cc := cX1_write) (maxL := 3) (ret := none) (by decide +kernel) rfl ?_
  intro p e s m args below meth c s₁ B hml hv
  obtain ⟨rfl, hr, hGr⟩ := hv
  have hx := B.exec
  have hb := B.bytes
  have hret := B.returns
  have hts := atoms_spec (ws := (ws_ yX1_write cX1_write 3 none)) B.pre
  have hts : ∀ w ∈ lw_all, w.before _ s = true := fun w h => hts w (List.mem_cons_of_mem _ h)
  have hown : s.vm.findClass RX1 = some m.cls := findClass_of_methodNamed B.named
  have hlocks := B.notSynchronized
  have hS : va_S A s.heap s.heap [] := va_S.rf
  have hc : cst h 0 0 h := cst_0
  have hl := lv_entry ([.ref a0, .int p1]) (n := 3) (Nat.le_of_ble_eq_true rfl)
  rw [lg_entry_eq]
  generalize (lg_sl ([.ref a0, .int p1]) ++ List.replicate (3 - (lg_sl ([.ref a0, .int p1])).length) Slot.unset).toArray = ls at hl ⊢
  have hl : lv_has ls 3 [(0, .ref a0), (1, .int p1)] := hl
  obtain ⟨h0, eh0⟩ : ∃ z, z = h := ⟨_, rfl⟩
  rw [← eh0] at hmc hms
  have loop : ∀ n : Nat, (∀ (h : Hp) (b0 : Nat) (x1 : Int32) (x2 : Int32), GX1_write_r n 1 h b0 x1 x2 = some out → ∀ (H : Heap) (locs : List Loc) (cells slots : Nat), cst h0 cells slots h → hR D A h H → va_S A s.heap H locs → ∀ ls : Array Slot, lv_has ls 3 [(0, .ref b0), (1, .int x1), (2, .int x2)] → W p l e (headSpec (ws_ yX1_write cX1_write 3 none) ({ frames := 0, cells := mc, slots := ms, locals := 0 })).room s m ([.ref a0, .int p1] : List Value).toArray below meth c H locs cells slots (MQ below (va_Qv (fun u => (0, u) = out) (hW D A) A) ([.ref a0, .int p1] : List Value).toArray s mc ms A) (F0 m 3 ls [])) := by
    intro n
    induction n with
    | zero => exact (fun _ _ _ _ h => nomatch h)
    | succ n ih =>
      have lp1 := ih
      have ml1 := moX1_write_r n
      intro h b0 x1 x2 hF H locs cells slots hc hr hS ls hl
      replace hF : GX1_write_1 (GX1_write_r n) n h b0 x1 x2 = some out := hF
      unfold GX1_write_1 at hF
      refine lv_iload_n hx hb dX1_write_3 rfl (lv_at hl 2 rfl) ?_
      refine lv_if_lt (tgt := 36) hx hb dX1_write_4 (by decide) (fun c1 => ?_) (fun c1 => ?_)
      · replace hF := it_t c1 hF
        have bz := bud_r hc hF hmc hms
        refine W.widen (k := mc) (n := ms) bz.1 bz.2 ?_
        exact W.vret hx hb hret (fun t ht hWm => ⟨⟨h, rfl, Option.some.inj hF, h_end hGr hr hS ht hWm⟩, hS.F ht⟩) hS.2.2 dX1_write_36
      · replace hF := it_f c1 hF
        refine lv_aload_n hx hb dX1_write_7 rfl (lv_at hl 0 rfl) ?_
        obtain ⟨fs2, x2_, e2, f2, hF⟩ := gQ_s hF
        refine h_get (C := RX1) (T := TX1) (N := 7) hx hb hts in_X1 hown hGr hr e2 (by decide) rfl 3 (by decide) (hts _ q637) (fun _ h9 => h9) f2 dX1_write_8 ?_
        refine lv_aload_n hx hb dX1_write_11 rfl (lv_at hl 0 rfl) ?_
        obtain ⟨fs3, x3_, e3, f3, hF⟩ := gI_s hF
        refine h_get (C := RX1) (T := TX1) (N := 7) hx hb hts in_X1 hown hGr hr e3 (by decide) rfl 4 (by decide) (hts _ q639) (fun _ h9 => h9) f3 dX1_write_12 ?_
        refine lv_iload_n hx hb dX1_write_15 rfl (lv_at hl 1 rfl) ?_
        refine lv_iload_n hx hb dX1_write_16 rfl (lv_at hl 2 rfl) ?_
        refine lv_ishr hx hb dX1_write_17 ?_
        refine lv_i2b (v := ((x1 >>> (x2 &&& 31))).toInt8.toInt32) hx hb dX1_write_18 rfl ?_
        obtain ⟨n4, f4, e4, lo4, g4, hF⟩ := sI_s hF
        obtain ⟨h4, eh4⟩ : ∃ z, z = hPut h x2_ (.inl (1, n4, .inl (upd f4 (x3_).toNatClampNeg (vp_nar .byte (((x1 >>> (x2 &&& 31))).toInt8.toInt32))))) := ⟨_, rfl⟩
        rw [← eh4] at hF
        refine h_bast hx hb hGr hr hS 1 rfl e4 (x := (((x1 >>> (x2 &&& 31))).toInt8.toInt32)) g4 lo4 dX1_write_19 (fun H locs hr hS => ?_)
        rw [← eh4] at hr
        replace hc := cst_put hc eh4
        refine lv_aload_n hx hb dX1_write_20 rfl (lv_at hl 0 rfl) ?_
        refine lv_dup hx hb dX1_write_21 rfl ?_
        obtain ⟨fs5, x5_, e5, f5, hF⟩ := gI_s hF
        refine h_get (C := RX1) (T := TX1) (N := 7) hx hb hts in_X1 hown hGr hr e5 (by decide) rfl 4 (by decide) (hts _ q639) (fun _ h9 => h9) f5 dX1_write_22 ?_
        refine lv_iconst (v := 1) hx hb dX1_write_25 (by decide) ?_
        refine lv_iadd hx hb dX1_write_26 ?_
        obtain ⟨fs6, e6, k6, lo6, hF⟩ := pV_s hF
        obtain ⟨h6, eh6⟩ : ∃ z, z = hPut h4 b0 (.inr (1, fs6.set 4 (.int (x5_ + 1)))) := ⟨_, rfl⟩
        rw [← eh6] at hF
        refine h_put (C := RX1) (T := TX1) (N := 7) hx hb hts in_X1 tyX1 tyX1_ok nmX1 hown hGr hr hS e6 (by decide) rfl 4 (by decide) (hts _ q639) (fun _ h9 => h9) rfl (tyX1_ok 4 (by decide)) rfl rfl k6 lo6 dX1_write_27 (fun H locs hr hS => ?_)
        rw [← eh6] at hr
        replace hc := cst_put hc eh6
        refine lv_iinc (v := (x2 + (-8))) (lv' := [(2, .int (x2 + (-8))), (0, .ref b0), (1, .int x1)]) hx hb dX1_write_30 hl (k := 2) rfl rfl (by decide) rfl (fun ls hl => ?_)
        refine lv_goto (tgt := 3) hx hb dX1_write_33 (by decide) ?_
        exact lp1 h6 b0 x1 (x2 + (-8)) hF _ _ _ _ hc hr hS ls (lv_sub hl [1, 2, 0] rfl)
  have lp1 := loop n
  have ml1 := moX1_write_r n
  have hc : cst h0 0 0 h := by rw [eh0]; exact cst_0
  unfold GX1_write GX1_write_0 at hF
  refine lv_bipush (v := 24) hx hb dX1_write_0 (by decide) ?_
  refine lv_istore_n (lv' := [(2, .int 24), (0, .ref a0), (1, .int p1)]) hx hb dX1_write_2 rfl hl (by decide) rfl (fun ls hl => ?_)
  exact lp1 h a0 p1 (24 : Int32) hF _ _ _ _ hc hr hS ls (lv_sub hl [1, 2, 0] rfl)

def GX1_append (n : Nat) (h : Hp) (a0 : Nat) (p1 : Int32) (p2 : Int32) (p3 : Int32) (p4 : Int32) (p5 : Int32) : Option ((Int32 ⊕ Xq) × Hp) := gI h a0 1 4 (fun x1_ => if 800 < (x1_ + 20) then bnx (GX1_requireState h (0 : Int32)) (fun r3 u3 => gC u3 a0 1 (bnd (GX1_write n u3 a0 p1) (fun r4 u4 => gC u4 a0 1 (bnd (GX1_write n u4 a0 p2) (fun r5 u5 => gC u5 a0 1 (bnd (GX1_write n u5 a0 p3) (fun r6 u6 => gC u6 a0 1 (bnd (GX1_write n u6 a0 p4) (fun r7 u7 => gC u7 a0 1 (bnd (GX1_write n u7 a0 p5) (fun r8 u8 => gI u8 a0 1 4 (fun x9_ => some (.inl x9_, u8))))))))))))) else bnx (GX1_requireState h (1 : Int32)) (fun r10 u10 => gC u10 a0 1 (bnd (GX1_write n u10 a0 p1) (fun r11 u11 => gC u11 a0 1 (bnd (GX1_write n u11 a0 p2) (fun r12 u12 => gC u12 a0 1 (bnd (GX1_write n u12 a0 p3) (fun r13 u13 => gC u13 a0 1 (bnd (GX1_write n u13 a0 p4) (fun r14 u14 => gC u14 a0 1 (bnd (GX1_write n u14 a0 p5) (fun r15 u15 => gI u15 a0 1 4 (fun x16_ => some (.inl x16_, u15))))))))))))))
theorem moX1_append (n : Nat) (h : Hp) (a0 : Nat) (p1 : Int32) (p2 : Int32) (p3 : Int32) (p4 : Int32) (p5 : Int32) : Mo h (GX1_append n h a0 p1 p2 p3 p4 p5) := by
  unfold GX1_append
  exact mo_gI (fun x1_ => mo_ite (mo_bnx (moX1_requireState h (0 : Int32)) hle_rf (fun r3 u3 m3 => mo_gC (mo_bnd (moX1_write n u3 a0 p1) m3 (fun r4 u4 m4 => mo_gC (mo_bnd (moX1_write n u4 a0 p2) m4 (fun r5 u5 m5 => mo_gC (mo_bnd (moX1_write n u5 a0 p3) m5 (fun r6 u6 m6 => mo_gC (mo_bnd (moX1_write n u6 a0 p4) m6 (fun r7 u7 m7 => mo_gC (mo_bnd (moX1_write n u7 a0 p5) m7 (fun r8 u8 m8 => mo_gI (fun x9_ => mo_ret m8))))))))))))) (mo_bnx (moX1_requireState h (1 : Int32)) hle_rf (fun r10 u10 m10 => mo_gC (mo_bnd (moX1_write n u10 a0 p1) m10 (fun r11 u11 m11 => mo_gC (mo_bnd (moX1_write n u11 a0 p2) m11 (fun r12 u12 m12 => mo_gC (mo_bnd (moX1_write n u12 a0 p3) m12 (fun r13 u13 m13 => mo_gC (mo_bnd (moX1_write n u13 a0 p4) m13 (fun r14 u14 m14 => mo_gC (mo_bnd (moX1_write n u14 a0 p5) m14 (fun r15 u15 m15 => mo_gI (fun x16_ => mo_ret m15))))))))))))))
set_option maxHeartbeats 4000000 in
set_option maxRecDepth 100000 in
theorem mgX1_append (l : Launch) (hl0 : l.stackTraces = false) (D : HD) (A : Nat → Prop) (h : Hp) (n : Nat) (a0 : Nat) (p1 : Int32) (p2 : Int32) (p3 : Int32) (p4 : Int32) (p5 : Int32) (out : (Int32 ⊕ Xq) × Hp) (hF : GX1_append n h a0 p1 p2 p3 p4 p5 = some out) (mc ms : Nat) (hmc : hCc out.2 = hCc h + mc) (hms : hSl out.2 = hSl h + ms) : vx_Met l yX1_append (ws_ yX1_append cX1_append 6 (some .int)) ({ frames := 7, cells := mc, slots := ms, locals := 120 }) (va_Pc [.ref a0, .int p1, .int p2, .int p3, .int p4, .int p5] (hW D A h)) (va_Qi (fun r u => ((.inl r : Int32 ⊕ Xq), u) = out) (hW D A) A) (xC D A out) mc ms A := by
  refine vx_ofW (cc := cX1_append) (maxL := 6) (ret := (some .int)) (by decide +kernel) rfl ?_
  intro p e s m args below meth c s₁ B hml htb hv
  obtain ⟨rfl, hr, hGr⟩ := hv
  have hx := B.exec
  have hb := B.bytes
  have hret := B.returns
  have hts := atoms_spec (ws := (ws_ yX1_append cX1_append 6 (some .int))) B.pre
  have hts : ∀ w ∈ lw_all, w.before _ s = true := fun w h => hts w (List.mem_cons_of_mem _ h)
  have hown : s.vm.findClass RX1 = some m.cls := findClass_of_methodNamed B.named
  have hlocks := B.notSynchronized
  have hS : va_S A s.heap s.heap [] := va_S.rf
  have hc : cst h 0 0 h := cst_0
  have hl := lv_entry ([.ref a0, .int p1, .int p2, .int p3, .int p4, .int p5]) (n := 6) (Nat.le_of_ble_eq_true rfl)
  rw [lg_entry_eq]
  generalize (lg_sl ([.ref a0, .int p1, .int p2, .int p3, .int p4, .int p5]) ++ List.replicate (6 - (lg_sl ([.ref a0, .int p1, .int p2, .int p3, .int p4, .int p5])).length) Slot.unset).toArray = ls at hl ⊢
  have hl : lv_has ls 6 [(0, .ref a0), (1, .int p1), (2, .int p2), (3, .int p3), (4, .int p4), (5, .int p5)] := hl
  unfold GX1_append at hF
  refine lv_aload_n hx hb dX1_append_0 rfl (lv_at hl 0 rfl) ?_
  obtain ⟨fs1, x1_, e1, f1, hF⟩ := gI_s hF
  refine h_get (C := RX1) (T := TX1) (N := 7) hx hb hts in_X1 hown hGr hr e1 (by decide) rfl 4 (by decide) (hts _ q639) (fun _ h9 => h9) f1 dX1_append_1 ?_
  refine lv_bipush (v := 20) hx hb dX1_append_4 (by decide) ?_
  refine lv_iadd hx hb dX1_append_6 ?_
  refine lv_sipush (v := 800) hx hb dX1_append_7 (by decide) ?_
  refine lv_icmp_gt (tgt := 17) hx hb dX1_append_10 (by decide) (fun c2 => ?_) (fun c2 => ?_)
  · replace hF := it_t c2 hF
    refine lv_iconst (v := 0) hx hb dX1_append_17 (by decide) ?_
    rcases bnx_s hF with ⟨r3, u3, e3, hF⟩ | ⟨q3, u3, e3, hF⟩
    rotate_left
    · obtain ⟨mc3, ms3, hmc3, hms3⟩ := up_of (moX1_requireState h (0 : Int32) _ e3)
      have hcx := cst_call hc hmc3 hms3
      have bx3 := bud_r hcx hF hmc hms
      refine h_xthrv rfl (vx_runS (As := [.int 0]) (rest := []) ⟨hx, hb, hml, hown, hts⟩ (mgX1_requireState l hl0 D A h (0 : Int32) _ e3 mc3 ms3 hmc3 hms3) (va_cwS 1 hts (lw_S q1326 q1327 q101 q1328) rfl rfl rfl (by decide +kernel) ⟨Nat.le_of_ble_eq_true rfl, Nat.le_of_ble_eq_true rfl⟩) (h_preS hGr hr hS _) rfl rfl hl.1 rfl (lv_room (Nat.le_of_ble_eq_true rfl)) dX1_append_18 ⟨bx3.1, bx3.2⟩) hS (fun E9 q9 u9 H locs ce9 e1 e2 e3 hr hS h1 h2 h3 => ?_)
      exact h_xpass hGr htb hlocks hF bx3 e1 e2 e3 hr hS h1 h2 h3
    have mm3 : hle u3 out.2 := (show Mo u3 _ from mo_gC (mo_bnd (moX1_write n u3 a0 p1) hle_rf (fun r4 u4 m4 => mo_gC (mo_bnd (moX1_write n u4 a0 p2) m4 (fun r5 u5 m5 => mo_gC (mo_bnd (moX1_write n u5 a0 p3) m5 (fun r6 u6 m6 => mo_gC (mo_bnd (moX1_write n u6 a0 p4) m6 (fun r7 u7 m7 => mo_gC (mo_bnd (moX1_write n u7 a0 p5) m7 (fun r8 u8 m8 => mo_gI (fun x9_ => mo_ret m8)))))))))))) _ hF
    obtain ⟨mc3, ms3, hmc3, hms3⟩ := up_of (moX1_requireState h (0 : Int32) _ e3)
    replace hc := cst_call hc hmc3 hms3
    refine h_xretv rfl (vx_runS (As := [.int 0]) (rest := []) ⟨hx, hb, hml, hown, hts⟩ (mgX1_requireState l hl0 D A h (0 : Int32) _ e3 mc3 ms3 hmc3 hms3) (va_cwS 1 hts (lw_S q1326 q1327 q101 q1328) rfl rfl rfl (by decide +kernel) ⟨Nat.le_of_ble_eq_true rfl, Nat.le_of_ble_eq_true rfl⟩) (h_preS hGr hr hS _) rfl rfl hl.1 rfl (lv_room (Nat.le_of_ble_eq_true rfl)) dX1_append_18 ⟨(bud hc mm3 hmc hms).1, (bud hc mm3 hmc hms).2⟩) hS (fun H locs hr hS => ?_)
    refine lv_aload_n hx hb dX1_append_21 rfl (lv_at hl 0 rfl) ?_
    refine lv_iload_n hx hb dX1_append_22 rfl (lv_at hl 1 rfl) ?_
    obtain ⟨fc4, ec4, hF⟩ := gC_s hF
    obtain ⟨r4, u4, e4, hF⟩ := bnd_s hF
    have mm4 : hle u4 out.2 := (show Mo u4 _ from mo_gC (mo_bnd (moX1_write n u4 a0 p2) hle_rf (fun r5 u5 m5 => mo_gC (mo_bnd (moX1_write n u5 a0 p3) m5 (fun r6 u6 m6 => mo_gC (mo_bnd (moX1_write n u6 a0 p4) m6 (fun r7 u7 m7 => mo_gC (mo_bnd (moX1_write n u7 a0 p5) m7 (fun r8 u8 m8 => mo_gI (fun x9_ => mo_ret m8)))))))))) _ hF
    obtain ⟨mc4, ms4, hmc4, hms4⟩ := up_of (moX1_write n u3 a0 p1 _ e4)
    replace hc := cst_call hc hmc4 hms4
    refine h_callv (va_runV (As := [.int p1]) (rest := []) ⟨hx, hb, hml, hown, hts⟩ (mgX1_write l D A u3 n a0 p1 _ e4 mc4 ms4 hmc4 hms4) (cwV 1 hts (lw_V q1334 q1336 qs26 q101 q1337) rfl rfl rfl (by decide +kernel) ⟨Nat.le_of_ble_eq_true rfl, Nat.le_of_ble_eq_true rfl⟩) (h_preV hGr hr hS ec4 (by decide) (q := (RX1, TX1, 7)) rfl _) rfl rfl hl.1 rfl (lv_room (Nat.le_of_ble_eq_true rfl)) dX1_append_23 ⟨(bud hc mm4 hmc hms).1, (bud hc mm4 hmc hms).2⟩) hS (fun uu H locs hw hr hS => ?_)
    obtain rfl : u4 = uu := (congrArg Prod.snd hw).symm
    refine lv_aload_n hx hb dX1_append_26 rfl (lv_at hl 0 rfl) ?_
    refine lv_iload_n hx hb dX1_append_27 rfl (lv_at hl 2 rfl) ?_
    obtain ⟨fc5, ec5, hF⟩ := gC_s hF
    obtain ⟨r5, u5, e5, hF⟩ := bnd_s hF
    have mm5 : hle u5 out.2 := (show Mo u5 _ from mo_gC (mo_bnd (moX1_write n u5 a0 p3) hle_rf (fun r6 u6 m6 => mo_gC (mo_bnd (moX1_write n u6 a0 p4) m6 (fun r7 u7 m7 => mo_gC (mo_bnd (moX1_write n u7 a0 p5) m7 (fun r8 u8 m8 => mo_gI (fun x9_ => mo_ret m8)))))))) _ hF
    obtain ⟨mc5, ms5, hmc5, hms5⟩ := up_of (moX1_write n u4 a0 p2 _ e5)
    replace hc := cst_call hc hmc5 hms5
    refine h_callv (va_runV (As := [.int p2]) (rest := []) ⟨hx, hb, hml, hown, hts⟩ (mgX1_write l D A u4 n a0 p2 _ e5 mc5 ms5 hmc5 hms5) (cwV 1 hts (lw_V q1334 q1336 qs26 q101 q1337) rfl rfl rfl (by decide +kernel) ⟨Nat.le_of_ble_eq_true rfl, Nat.le_of_ble_eq_true rfl⟩) (h_preV hGr hr hS ec5 (by decide) (q := (RX1, TX1, 7)) rfl _) rfl rfl hl.1 rfl (lv_room (Nat.le_of_ble_eq_true rfl)) dX1_append_28 ⟨(bud hc mm5 hmc hms).1, (bud hc mm5 hmc hms).2⟩) hS (fun uu H locs hw hr hS => ?_)
    obtain rfl : u5 = uu := (congrArg Prod.snd hw).symm
    refine lv_aload_n hx hb dX1_append_31 rfl (lv_at hl 0 rfl) ?_
    refine lv_iload_n hx hb dX1_append_32 rfl (lv_at hl 3 rfl) ?_
    obtain ⟨fc6, ec6, hF⟩ := gC_s hF
    obtain ⟨r6, u6, e6, hF⟩ := bnd_s hF
    have mm6 : hle u6 out.2 := (show Mo u6 _ from mo_gC (mo_bnd (moX1_write n u6 a0 p4) hle_rf (fun r7 u7 m7 => mo_gC (mo_bnd (moX1_write n u7 a0 p5) m7 (fun r8 u8 m8 => mo_gI (fun x9_ => mo_ret m8)))))) _ hF
    obtain ⟨mc6, ms6, hmc6, hms6⟩ := up_of (moX1_write n u5 a0 p3 _ e6)
    replace hc := cst_call hc hmc6 hms6
    refine h_callv (va_runV (As := [.int p3]) (rest := []) ⟨hx, hb, hml, hown, hts⟩ (mgX1_write l D A u5 n a0 p3 _ e6 mc6 ms6 hmc6 hms6) (cwV 1 hts (lw_V q1334 q1336 qs26 q101 q1337) rfl rfl rfl (by decide +kernel) ⟨Nat.le_of_ble_eq_true rfl, Nat.le_of_ble_eq_true rfl⟩) (h_preV hGr hr hS ec6 (by decide) (q := (RX1, TX1, 7)) rfl _) rfl rfl hl.1 rfl (lv_room (Nat.le_of_ble_eq_true rfl)) dX1_append_33 ⟨(bud hc mm6 hmc hms).1, (bud hc mm6 hmc hms).2⟩) hS (fun uu H locs hw hr hS => ?_)
    obtain rfl : u6 = uu := (congrArg Prod.snd hw).symm
    refine lv_aload_n hx hb dX1_append_36 rfl (lv_at hl 0 rfl) ?_
    refine lv_iload hx hb dX1_append_37 (lv_at hl 4 rfl) ?_
    obtain ⟨fc7, ec7, hF⟩ := gC_s hF
    obtain ⟨r7, u7, e7, hF⟩ := bnd_s hF
    have mm7 : hle u7 out.2 := (show Mo u7 _ from mo_gC (mo_bnd (moX1_write n u7 a0 p5) hle_rf (fun r8 u8 m8 => mo_gI (fun x9_ => mo_ret m8)))) _ hF
    obtain ⟨mc7, ms7, hmc7, hms7⟩ := up_of (moX1_write n u6 a0 p4 _ e7)
    replace hc := cst_call hc hmc7 hms7
    refine h_callv (va_runV (As := [.int p4]) (rest := []) ⟨hx, hb, hml, hown, hts⟩ (mgX1_write l D A u6 n a0 p4 _ e7 mc7 ms7 hmc7 hms7) (cwV 1 hts (lw_V q1334 q1336 qs26 q101 q1337) rfl rfl rfl (by decide +kernel) ⟨Nat.le_of_ble_eq_true rfl, Nat.le_of_ble_eq_true rfl⟩) (h_preV hGr hr hS ec7 (by decide) (q := (RX1, TX1, 7)) rfl _) rfl rfl hl.1 rfl (lv_room (Nat.le_of_ble_eq_true rfl)) dX1_append_39 ⟨(bud hc mm7 hmc hms).1, (bud hc mm7 hmc hms).2⟩) hS (fun uu H locs hw hr hS => ?_)
    obtain rfl : u7 = uu := (congrArg Prod.snd hw).symm
    refine lv_aload_n hx hb dX1_append_42 rfl (lv_at hl 0 rfl) ?_
    refine lv_iload hx hb dX1_append_43 (lv_at hl 5 rfl) ?_
    obtain ⟨fc8, ec8, hF⟩ := gC_s hF
    obtain ⟨r8, u8, e8, hF⟩ := bnd_s hF
    have mm8 : hle u8 out.2 := (show Mo u8 _ from mo_gI (fun x9_ => mo_ret hle_rf)) _ hF
    obtain ⟨mc8, ms8, hmc8, hms8⟩ := up_of (moX1_write n u7 a0 p5 _ e8)
    replace hc := cst_call hc hmc8 hms8
    refine h_callv (va_runV (As := [.int p5]) (rest := []) ⟨hx, hb, hml, hown, hts⟩ (mgX1_write l D A u7 n a0 p5 _ e8 mc8 ms8 hmc8 hms8) (cwV 1 hts (lw_V q1334 q1336 qs26 q101 q1337) rfl rfl rfl (by decide +kernel) ⟨Nat.le_of_ble_eq_true rfl, Nat.le_of_ble_eq_true rfl⟩) (h_preV hGr hr hS ec8 (by decide) (q := (RX1, TX1, 7)) rfl _) rfl rfl hl.1 rfl (lv_room (Nat.le_of_ble_eq_true rfl)) dX1_append_45 ⟨(bud hc mm8 hmc hms).1, (bud hc mm8 hmc hms).2⟩) hS (fun uu H locs hw hr hS => ?_)
    obtain rfl : u8 = uu := (congrArg Prod.snd hw).symm
    refine lv_aload_n hx hb dX1_append_48 rfl (lv_at hl 0 rfl) ?_
    obtain ⟨fs9, x9_, e9, f9, hF⟩ := gI_s hF
    refine h_get (C := RX1) (T := TX1) (N := 7) hx hb hts in_X1 hown hGr hr e9 (by decide) rfl 4 (by decide) (hts _ q639) (fun _ h9 => h9) f9 dX1_append_49 ?_
    have bz := bud_r hc hF hmc hms
    refine vx_ret ?_
    refine W.widen (k := mc) (n := ms) bz.1 bz.2 ?_
    exact W.iret (v := x9_) hx hb hret (fun t ht hWm => ⟨⟨x9_, u8, rfl, Option.some.inj hF, h_end hGr hr hS ht hWm⟩, hS.F ht⟩) hS.2.2 dX1_append_52
  · replace hF := it_f c2 hF
    refine lv_iconst (v := 1) hx hb dX1_append_13 (by decide) ?_
    refine lv_goto (tgt := 18) hx hb dX1_append_14 (by decide) ?_
    rcases bnx_s hF with ⟨r10, u10, e10, hF⟩ | ⟨q10, u10, e10, hF⟩
    rotate_left
    · obtain ⟨mc10, ms10, hmc10, hms10⟩ := up_of (moX1_requireState h (1 : Int32) _ e10)
      have hcx := cst_call hc hmc10 hms10
      have bx10 := bud_r hcx hF hmc hms
      refine h_xthrv rfl (vx_runS (As := [.int 1]) (rest := []) ⟨hx, hb, hml, hown, hts⟩ (mgX1_requireState l hl0 D A h (1 : Int32) _ e10 mc10 ms10 hmc10 hms10) (va_cwS 1 hts (lw_S q1326 q1327 q101 q1328) rfl rfl rfl (by decide +kernel) ⟨Nat.le_of_ble_eq_true rfl, Nat.le_of_ble_eq_true rfl⟩) (h_preS hGr hr hS _) rfl rfl hl.1 rfl (lv_room (Nat.le_of_ble_eq_true rfl)) dX1_append_18 ⟨bx10.1, bx10.2⟩) hS (fun E9 q9 u9 H locs ce9 e1 e2 e3 hr hS h1 h2 h3 => ?_)
      exact h_xpass hGr htb hlocks hF bx10 e1 e2 e3 hr hS h1 h2 h3
    have mm10 : hle u10 out.2 := (show Mo u10 _ from mo_gC (mo_bnd (moX1_write n u10 a0 p1) hle_rf (fun r11 u11 m11 => mo_gC (mo_bnd (moX1_write n u11 a0 p2) m11 (fun r12 u12 m12 => mo_gC (mo_bnd (moX1_write n u12 a0 p3) m12 (fun r13 u13 m13 => mo_gC (mo_bnd (moX1_write n u13 a0 p4) m13 (fun r14 u14 m14 => mo_gC (mo_bnd (moX1_write n u14 a0 p5) m14 (fun r15 u15 m15 => mo_gI (fun x16_ => mo_ret m15)))))))))))) _ hF
    obtain ⟨mc10, ms10, hmc10, hms10⟩ := up_of (moX1_requireState h (1 : Int32) _ e10)
    replace hc := cst_call hc hmc10 hms10
    refine h_xretv rfl (vx_runS (As := [.int 1]) (rest := []) ⟨hx, hb, hml, hown, hts⟩ (mgX1_requireState l hl0 D A h (1 : Int32) _ e10 mc10 ms10 hmc10 hms10) (va_cwS 1 hts (lw_S q1326 q1327 q101 q1328) rfl rfl rfl (by decide +kernel) ⟨Nat.le_of_ble_eq_true rfl, Nat.le_of_ble_eq_true rfl⟩) (h_preS hGr hr hS _) rfl rfl hl.1 rfl (lv_room (Nat.le_of_ble_eq_true rfl)) dX1_append_18 ⟨(bud hc mm10 hmc hms).1, (bud hc mm10 hmc hms).2⟩) hS (fun H locs hr hS => ?_)
    refine lv_aload_n hx hb dX1_append_21 rfl (lv_at hl 0 rfl) ?_
    refine lv_iload_n hx hb dX1_append_22 rfl (lv_at hl 1 rfl) ?_
    obtain ⟨fc11, ec11, hF⟩ := gC_s hF
    obtain ⟨r11, u11, e11, hF⟩ := bnd_s hF
    have mm11 : hle u11 out.2 := (show Mo u11 _ from mo_gC (mo_bnd (moX1_write n u11 a0 p2) hle_rf (fun r12 u12 m12 => mo_gC (mo_bnd (moX1_write n u12 a0 p3) m12 (fun r13 u13 m13 => mo_gC (mo_bnd (moX1_write n u13 a0 p4) m13 (fun r14 u14 m14 => mo_gC (mo_bnd (moX1_write n u14 a0 p5) m14 (fun r15 u15 m15 => mo_gI (fun x16_ => mo_ret m15)))))))))) _ hF
    obtain ⟨mc11, ms11, hmc11, hms11⟩ := up_of (moX1_write n u10 a0 p1 _ e11)
    replace hc := cst_call hc hmc11 hms11
    refine h_callv (va_runV (As := [.int p1]) (rest := []) ⟨hx, hb, hml, hown, hts⟩ (mgX1_write l D A u10 n a0 p1 _ e11 mc11 ms11 hmc11 hms11) (cwV 1 hts (lw_V q1334 q1336 qs26 q101 q1337) rfl rfl rfl (by decide +kernel) ⟨Nat.le_of_ble_eq_true rfl, Nat.le_of_ble_eq_true rfl⟩) (h_preV hGr hr hS ec11 (by decide) (q := (RX1, TX1, 7)) rfl _) rfl rfl hl.1 rfl (lv_room (Nat.le_of_ble_eq_true rfl)) dX1_append_23 ⟨(bud hc mm11 hmc hms).1, (bud hc mm11 hmc hms).2⟩) hS (fun uu H locs hw hr hS => ?_)
    obtain rfl : u11 = uu := (congrArg Prod.snd hw).symm
    refine lv_aload_n hx hb dX1_append_26 rfl (lv_at hl 0 rfl) ?_
    refine lv_iload_n hx hb dX1_append_27 rfl (lv_at hl 2 rfl) ?_
    obtain ⟨fc12, ec12, hF⟩ := gC_s hF
    obtain ⟨r12, u12, e12, hF⟩ := bnd_s hF
    have mm12 : hle u12 out.2 := (show Mo u12 _ from mo_gC (mo_bnd (moX1_write n u12 a0 p3) hle_rf (fun r13 u13 m13 => mo_gC (mo_bnd (moX1_write n u13 a0 p4) m13 (fun r14 u14 m14 => mo_gC (mo_bnd (moX1_write n u14 a0 p5) m14 (fun r15 u15 m15 => mo_gI (fun x16_ => mo_ret m15)))))))) _ hF
    obtain ⟨mc12, ms12, hmc12, hms12⟩ := up_of (moX1_write n u11 a0 p2 _ e12)
    replace hc := cst_call hc hmc12 hms12
    refine h_callv (va_runV (As := [.int p2]) (rest := []) ⟨hx, hb, hml, hown, hts⟩ (mgX1_write l D A u11 n a0 p2 _ e12 mc12 ms12 hmc12 hms12) (cwV 1 hts (lw_V q1334 q1336 qs26 q101 q1337) rfl rfl rfl (by decide +kernel) ⟨Nat.le_of_ble_eq_true rfl, Nat.le_of_ble_eq_true rfl⟩) (h_preV hGr hr hS ec12 (by decide) (q := (RX1, TX1, 7)) rfl _) rfl rfl hl.1 rfl (lv_room (Nat.le_of_ble_eq_true rfl)) dX1_append_28 ⟨(bud hc mm12 hmc hms).1, (bud hc mm12 hmc hms).2⟩) hS (fun uu H locs hw hr hS => ?_)
    obtain rfl : u12 = uu := (congrArg Prod.snd hw).symm
    refine lv_aload_n hx hb dX1_append_31 rfl (lv_at hl 0 rfl) ?_
    refine lv_iload_n hx hb dX1_append_32 rfl (lv_at hl 3 rfl) ?_
    obtain ⟨fc13, ec13, hF⟩ := gC_s hF
    obtain ⟨r13, u13, e13, hF⟩ := bnd_s hF
    have mm13 : hle u13 out.2 := (show Mo u13 _ from mo_gC (mo_bnd (moX1_write n u13 a0 p4) hle_rf (fun r14 u14 m14 => mo_gC (mo_bnd (moX1_write n u14 a0 p5) m14 (fun r15 u15 m15 => mo_gI (fun x16_ => mo_ret m15)))))) _ hF
    obtain ⟨mc13, ms13, hmc13, hms13⟩ := up_of (moX1_write n u12 a0 p3 _ e13)
    replace hc := cst_call hc hmc13 hms13
    refine h_callv (va_runV (As := [.int p3]) (rest := []) ⟨hx, hb, hml, hown, hts⟩ (mgX1_write l D A u12 n a0 p3 _ e13 mc13 ms13 hmc13 hms13) (cwV 1 hts (lw_V q1334 q1336 qs26 q101 q1337) rfl rfl rfl (by decide +kernel) ⟨Nat.le_of_ble_eq_true rfl, Nat.le_of_ble_eq_true rfl⟩) (h_preV hGr hr hS ec13 (by decide) (q := (RX1, TX1, 7)) rfl _) rfl rfl hl.1 rfl (lv_room (Nat.le_of_ble_eq_true rfl)) dX1_append_33 ⟨(bud hc mm13 hmc hms).1, (bud hc mm13 hmc hms).2⟩) hS (fun uu H locs hw hr hS => ?_)
    obtain rfl : u13 = uu := (congrArg Prod.snd hw).symm
    refine lv_aload_n hx hb dX1_append_36 rfl (lv_at hl 0 rfl) ?_
    refine lv_iload hx hb dX1_append_37 (lv_at hl 4 rfl) ?_
    obtain ⟨fc14, ec14, hF⟩ := gC_s hF
    obtain ⟨r14, u14, e14, hF⟩ := bnd_s hF
    have mm14 : hle u14 out.2 := (show Mo u14 _ from mo_gC (mo_bnd (moX1_write n u14 a0 p5) hle_rf (fun r15 u15 m15 => mo_gI (fun x16_ => mo_ret m15)))) _ hF
    obtain ⟨mc14, ms14, hmc14, hms14⟩ := up_of (moX1_write n u13 a0 p4 _ e14)
    replace hc := cst_call hc hmc14 hms14
    refine h_callv (va_runV (As := [.int p4]) (rest := []) ⟨hx, hb, hml, hown, hts⟩ (mgX1_write l D A u13 n a0 p4 _ e14 mc14 ms14 hmc14 hms14) (cwV 1 hts (lw_V q1334 q1336 qs26 q101 q1337) rfl rfl rfl (by decide +kernel) ⟨Nat.le_of_ble_eq_true rfl, Nat.le_of_ble_eq_true rfl⟩) (h_preV hGr hr hS ec14 (by decide) (q := (RX1, TX1, 7)) rfl _) rfl rfl hl.1 rfl (lv_room (Nat.le_of_ble_eq_true rfl)) dX1_append_39 ⟨(bud hc mm14 hmc hms).1, (bud hc mm14 hmc hms).2⟩) hS (fun uu H locs hw hr hS => ?_)
    obtain rfl : u14 = uu := (congrArg Prod.snd hw).symm
    refine lv_aload_n hx hb dX1_append_42 rfl (lv_at hl 0 rfl) ?_
    refine lv_iload hx hb dX1_append_43 (lv_at hl 5 rfl) ?_
    obtain ⟨fc15, ec15, hF⟩ := gC_s hF
    obtain ⟨r15, u15, e15, hF⟩ := bnd_s hF
    have mm15 : hle u15 out.2 := (show Mo u15 _ from mo_gI (fun x16_ => mo_ret hle_rf)) _ hF
    obtain ⟨mc15, ms15, hmc15, hms15⟩ := up_of (moX1_write n u14 a0 p5 _ e15)
    replace hc := cst_call hc hmc15 hms15
    refine h_callv (va_runV (As := [.int p5]) (rest := []) ⟨hx, hb, hml, hown, hts⟩ (mgX1_write l D A u14 n a0 p5 _ e15 mc15 ms15 hmc15 hms15) (cwV 1 hts (lw_V q1334 q1336 qs26 q101 q1337) rfl rfl rfl (by decide +kernel) ⟨Nat.le_of_ble_eq_true rfl, Nat.le_of_ble_eq_true rfl⟩) (h_preV hGr hr hS ec15 (by decide) (q := (RX1, TX1, 7)) rfl _) rfl rfl hl.1 rfl (lv_room (Nat.le_of_ble_eq_true rfl)) dX1_append_45 ⟨(bud hc mm15 hmc hms).1, (bud hc mm15 hmc hms).2⟩) hS (fun uu H locs hw hr hS => ?_)
    obtain rfl : u15 = uu := (congrArg Prod.snd hw).symm
    refine lv_aload_n hx hb dX1_append_48 rfl (lv_at hl 0 rfl) ?_
    obtain ⟨fs16, x16_, e16, f16, hF⟩ := gI_s hF
    refine h_get (C := RX1) (T := TX1) (N := 7) hx hb hts in_X1 hown hGr hr e16 (by decide) rfl 4 (by decide) (hts _ q639) (fun _ h9 => h9) f16 dX1_append_49 ?_
    have bz := bud_r hc hF hmc hms
    refine vx_ret ?_
    refine W.widen (k := mc) (n := ms) bz.1 bz.2 ?_
    exact W.iret (v := x16_) hx hb hret (fun t ht hWm => ⟨⟨x16_, u15, rfl, Option.some.inj hF, h_end hGr hr hS ht hWm⟩, hS.F ht⟩) hS.2.2 dX1_append_52

def GX1_errorPosition (h : Hp) (a0 : Nat) : Option (Int32 × Hp) := gI h a0 1 5 (fun x1_ => some (x1_, h))
theorem moX1_errorPosition (h : Hp) (a0 : Nat) : Mo h (GX1_errorPosition h a0) := by
  unfold GX1_errorPosition
  exact mo_gI (fun x1_ => mo_ret hle_rf)
set_option maxHeartbeats 4000000 in
set_option maxRecDepth 100000 in
theorem mgX1_errorPosition (l : Launch) (D : HD) (A : Nat → Prop) (h : Hp) (a0 : Nat) (out : Int32 × Hp) (hF : GX1_errorPosition h a0 = some out) (mc ms : Nat) (hmc : hCc out.2 = hCc h + mc) (hms : hSl out.2 = hSl h + ms) : Met l yX1_errorPosition (ws_ yX1_errorPosition cX1_errorPosition 1 (some .int)) ({ frames := 0, cells := mc, slots := ms, locals := 0 }) (va_Pc [.ref a0] (hW D A h)) (va_Qi (fun r u => (r, u) = out) (hW D A) A) mc ms A := by
  refine Met.ofW (cc := cX1_errorPosition) (maxL := 1) (ret := (some .int)) (by decide +kernel) rfl ?_
  intro p e s m args below meth c s₁ B hml hv
  obtain ⟨rfl, hr, hGr⟩ := hv
  have hx := B.exec
  have hb := B.bytes
  have hret := B.returns
  have hts := atoms_spec (ws := (ws_ yX1_errorPosition cX1_errorPosition 1 (some .int))) B.pre
  have hts : ∀ w ∈ lw_all, w.before _ s = true := fun w h => hts w (List.mem_cons_of_mem _ h)
  have hown : s.vm.findClass RX1 = some m.cls := findClass_of_methodNamed B.named
  have hlocks := B.notSynchronized
  have hS : va_S A s.heap s.heap [] := va_S.rf
  have hc : cst h 0 0 h := cst_0
  have hl := lv_entry ([.ref a0]) (n := 1) (Nat.le_of_ble_eq_true rfl)
  rw [lg_entry_eq]
  generalize (lg_sl ([.ref a0]) ++ List.replicate (1 - (lg_sl ([.ref a0])).length) Slot.unset).toArray = ls at hl ⊢
  have hl : lv_has ls 1 [(0, .ref a0)] := hl
  unfold GX1_errorPosition at hF
  refine lv_aload_n hx hb dX1_errorPosition_0 rfl (lv_at hl 0 rfl) ?_
  obtain ⟨fs1, x1_, e1, f1, hF⟩ := gI_s hF
  refine h_get (C := RX1) (T := TX1) (N := 7) hx hb hts in_X1 hown hGr hr e1 (by decide) rfl 5 (by decide) (hts _ q641) (fun _ h9 => h9) f1 dX1_errorPosition_1 ?_
  have bz := bud_r hc hF hmc hms
  refine W.widen (k := mc) (n := ms) bz.1 bz.2 ?_
  exact W.iret (v := x1_) hx hb hret (fun t ht hWm => ⟨⟨x1_, h, rfl, Option.some.inj hF, h_end hGr hr hS ht hWm⟩, hS.F ht⟩) hS.2.2 dX1_errorPosition_4

def GX1_count (h : Hp) (a0 : Nat) (p1 : Int32) : Option ((Int32 ⊕ Xq) × Hp) := if p1 = 0 then gQ h a0 1 0 (fun x2_ => gQ h x2_ 2 0 (fun x3_ => gI h x3_ 3 0 (fun x4_ => some (.inl x4_, h)))) else if p1 = 1 then gQ h a0 1 0 (fun x6_ => gI h x6_ 2 1 (fun x7_ => some (.inl x7_, h))) else if p1 = 2 then gQ h a0 1 0 (fun x9_ => gI h x9_ 2 4 (fun x10_ => some (.inl x10_, h))) else if p1 = 3 then gQ h a0 1 0 (fun x12_ => gI h x12_ 2 5 (fun x13_ => some (.inl x13_, h))) else if p1 = 4 then gQ h a0 1 0 (fun x15_ => gI h x15_ 2 6 (fun x16_ => if x16_ = 0 then some (.inl (0 : Int32), h) else some (.inl (1 : Int32), h))) else if p1 = 5 then gQ h a0 1 0 (fun x19_ => gQ h x19_ 2 7 (fun x20_ => gC h x20_ 10 (bnd (GJ2_size h x20_) (fun r21 u21 => some (.inl r21, u21))))) else if p1 = 6 then gQ h a0 1 0 (fun x23_ => gQ h x23_ 2 8 (fun x24_ => gC h x24_ 10 (bnd (GJ2_size h x24_) (fun r25 u25 => some (.inl r25, u25))))) else if p1 = 7 then gQ h a0 1 0 (fun x27_ => gI h x27_ 2 9 (fun x28_ => some (.inl x28_, h))) else if p1 = 8 then gQ h a0 1 0 (fun x30_ => gI h x30_ 2 10 (fun x31_ => some (.inl x31_, h))) else some (.inr (1, 0), hX h)
theorem moX1_count (h : Hp) (a0 : Nat) (p1 : Int32) : Mo h (GX1_count h a0 p1) := by
  unfold GX1_count
  exact mo_ite (mo_gQ (fun x2_ => mo_gQ (fun x3_ => mo_gI (fun x4_ => mo_ret hle_rf)))) (mo_ite (mo_gQ (fun x6_ => mo_gI (fun x7_ => mo_ret hle_rf))) (mo_ite (mo_gQ (fun x9_ => mo_gI (fun x10_ => mo_ret hle_rf))) (mo_ite (mo_gQ (fun x12_ => mo_gI (fun x13_ => mo_ret hle_rf))) (mo_ite (mo_gQ (fun x15_ => mo_gI (fun x16_ => mo_ite (mo_ret hle_rf) (mo_ret hle_rf)))) (mo_ite (mo_gQ (fun x19_ => mo_gQ (fun x20_ => mo_gC (mo_bnd (moJ2_size h x20_) hle_rf (fun r21 u21 m21 => mo_ret m21))))) (mo_ite (mo_gQ (fun x23_ => mo_gQ (fun x24_ => mo_gC (mo_bnd (moJ2_size h x24_) hle_rf (fun r25 u25 m25 => mo_ret m25))))) (mo_ite (mo_gQ (fun x27_ => mo_gI (fun x28_ => mo_ret hle_rf))) (mo_ite (mo_gQ (fun x30_ => mo_gI (fun x31_ => mo_ret hle_rf))) (mo_ret (hle_tr hle_rf hle_X))))))))))
set_option maxHeartbeats 4000000 in
set_option maxRecDepth 100000 in
theorem mgX1_count (l : Launch) (hl0 : l.stackTraces = false) (D : HD) (A : Nat → Prop) (h : Hp) (a0 : Nat) (p1 : Int32) (out : (Int32 ⊕ Xq) × Hp) (hF : GX1_count h a0 p1 = some out) (mc ms : Nat) (hmc : hCc out.2 = hCc h + mc) (hms : hSl out.2 = hSl h + ms) : vx_Met l yX1_count (ws_ yX1_count cX1_count 2 (some .int)) ({ frames := 6, cells := mc, slots := ms, locals := 100 }) (va_Pc [.ref a0, .int p1] (hW D A h)) (va_Qi (fun r u => ((.inl r : Int32 ⊕ Xq), u) = out) (hW D A) A) (xC D A out) mc ms A := by
  refine vx_ofW (cc := cX1_count) (maxL := 2) (ret := (some .int)) (by decide +kernel) rfl ?_
  intro p e s m args below meth c s₁ B hml htb hv
  obtain ⟨rfl, hr, hGr⟩ := hv
  have hx := B.exec
  have hb := B.bytes
  have hret := B.returns
  have hts := atoms_spec (ws := (ws_ yX1_count cX1_count 2 (some .int))) B.pre
  have hts : ∀ w ∈ lw_all, w.before _ s = true := fun w h => hts w (List.mem_cons_of_mem _ h)
  have hown : s.vm.findClass RX1 = some m.cls := findClass_of_methodNamed B.named
  have hlocks := B.notSynchronized
  have hS : va_S A s.heap s.heap [] := va_S.rf
  have hc : cst h 0 0 h := cst_0
  have hl := lv_entry ([.ref a0, .int p1]) (n := 2) (Nat.le_of_ble_eq_true rfl)
  rw [lg_entry_eq]
  generalize (lg_sl ([.ref a0, .int p1]) ++ List.replicate (2 - (lg_sl ([.ref a0, .int p1])).length) Slot.unset).toArray = ls at hl ⊢
  have hl : lv_has ls 2 [(0, .ref a0), (1, .int p1)] := hl
  unfold GX1_count at hF
  refine lv_iload_n hx hb dX1_count_0 rfl (lv_at hl 1 rfl) ?_
  rcases Decidable.em (p1 = 0) with c1 | c1
  · replace hF := it_t c1 hF
    refine lv_tableIn (off := 51) (tgt := 52) hx hb dX1_count_1 (by rw [c1]; decide) (by rw [c1]; decide) (by rw [c1]; rfl) (by decide) ?_
    refine lv_aload_n hx hb dX1_count_52 rfl (lv_at hl 0 rfl) ?_
    obtain ⟨fs2, x2_, e2, f2, hF⟩ := gQ_s hF
    refine h_get (C := RX1) (T := TX1) (N := 7) hx hb hts in_X1 hown hGr hr e2 (by decide) rfl 0 (by decide) (hts _ q633) (fun _ h9 => h9) f2 dX1_count_53 ?_
    obtain ⟨fs3, x3_, e3, f3, hF⟩ := gQ_s hF
    refine h_getN (C := RX2) (T := TX2) (N := 11) hx hb hts in_X2 hown hGr hr e3 (by decide) rfl 0 (by decide) (va_Nw.use rfl (hGr.nw q564 rfl)) (fun _ h9 => h9) f3 dX1_count_56 ?_
    obtain ⟨fs4, x4_, e4, f4, hF⟩ := gI_s hF
    refine h_getN (C := RX3) (T := TX3) (N := 2) hx hb hts in_X3 hown hGr hr e4 (by decide) rfl 0 (by decide) (va_Nw.use rfl (hGr.nw q168 rfl)) (fun _ h9 => h9) f4 dX1_count_59 ?_
    have bz := bud_r hc hF hmc hms
    refine vx_ret ?_
    refine W.widen (k := mc) (n := ms) bz.1 bz.2 ?_
    exact W.iret (v := x4_) hx hb hret (fun t ht hWm => ⟨⟨x4_, h, rfl, Option.some.inj hF, h_end hGr hr hS ht hWm⟩, hS.F ht⟩) hS.2.2 dX1_count_62
  · replace hF := it_f c1 hF
    rcases Decidable.em (p1 = 1) with c5 | c5
    · replace hF := it_t c5 hF
      refine lv_tableIn (off := 62) (tgt := 63) hx hb dX1_count_1 (by rw [c5]; decide) (by rw [c5]; decide) (by rw [c5]; rfl) (by decide) ?_
      refine lv_aload_n hx hb dX1_count_63 rfl (lv_at hl 0 rfl) ?_
      obtain ⟨fs6, x6_, e6, f6, hF⟩ := gQ_s hF
      refine h_get (C := RX1) (T := TX1) (N := 7) hx hb hts in_X1 hown hGr hr e6 (by decide) rfl 0 (by decide) (hts _ q633) (fun _ h9 => h9) f6 dX1_count_64 ?_
      obtain ⟨fs7, x7_, e7, f7, hF⟩ := gI_s hF
      refine h_getN (C := RX2) (T := TX2) (N := 11) hx hb hts in_X2 hown hGr hr e7 (by decide) rfl 1 (by decide) (va_Nw.use rfl (hGr.nw q567 rfl)) (fun _ h9 => h9) f7 dX1_count_67 ?_
      have bz := bud_r hc hF hmc hms
      refine vx_ret ?_
      refine W.widen (k := mc) (n := ms) bz.1 bz.2 ?_
      exact W.iret (v := x7_) hx hb hret (fun t ht hWm => ⟨⟨x7_, h, rfl, Option.some.inj hF, h_end hGr hr hS ht hWm⟩, hS.F ht⟩) hS.2.2 dX1_count_70
    · replace hF := it_f c5 hF
      rcases Decidable.em (p1 = 2) with c8 | c8
      · replace hF := it_t c8 hF
        refine lv_tableIn (off := 70) (tgt := 71) hx hb dX1_count_1 (by rw [c8]; decide) (by rw [c8]; decide) (by rw [c8]; rfl) (by decide) ?_
        refine lv_aload_n hx hb dX1_count_71 rfl (lv_at hl 0 rfl) ?_
        obtain ⟨fs9, x9_, e9, f9, hF⟩ := gQ_s hF
        refine h_get (C := RX1) (T := TX1) (N := 7) hx hb hts in_X1 hown hGr hr e9 (by decide) rfl 0 (by decide) (hts _ q633) (fun _ h9 => h9) f9 dX1_count_72 ?_
        obtain ⟨fs10, x10_, e10, f10, hF⟩ := gI_s hF
        refine h_getN (C := RX2) (T := TX2) (N := 11) hx hb hts in_X2 hown hGr hr e10 (by decide) rfl 4 (by decide) (va_Nw.use rfl (hGr.nw q575 rfl)) (fun _ h9 => h9) f10 dX1_count_75 ?_
        have bz := bud_r hc hF hmc hms
        refine vx_ret ?_
        refine W.widen (k := mc) (n := ms) bz.1 bz.2 ?_
        exact W.iret (v := x10_) hx hb hret (fun t ht hWm => ⟨⟨x10_, h, rfl, Option.some.inj hF, h_end hGr hr hS ht hWm⟩, hS.F ht⟩) hS.2.2 dX1_count_78
      · replace hF := it_f c8 hF
        rcases Decidable.em (p1 = 3) with c11 | c11
        · replace hF := it_t c11 hF
          refine lv_tableIn (off := 78) (tgt := 79) hx hb dX1_count_1 (by rw [c11]; decide) (by rw [c11]; decide) (by rw [c11]; rfl) (by decide) ?_
          refine lv_aload_n hx hb dX1_count_79 rfl (lv_at hl 0 rfl) ?_
          obtain ⟨fs12, x12_, e12, f12, hF⟩ := gQ_s hF
          refine h_get (C := RX1) (T := TX1) (N := 7) hx hb hts in_X1 hown hGr hr e12 (by decide) rfl 0 (by decide) (hts _ q633) (fun _ h9 => h9) f12 dX1_count_80 ?_
          obtain ⟨fs13, x13_, e13, f13, hF⟩ := gI_s hF
          refine h_getN (C := RX2) (T := TX2) (N := 11) hx hb hts in_X2 hown hGr hr e13 (by decide) rfl 5 (by decide) (va_Nw.use rfl (hGr.nw q578 rfl)) (fun _ h9 => h9) f13 dX1_count_83 ?_
          have bz := bud_r hc hF hmc hms
          refine vx_ret ?_
          refine W.widen (k := mc) (n := ms) bz.1 bz.2 ?_
          exact W.iret (v := x13_) hx hb hret (fun t ht hWm => ⟨⟨x13_, h, rfl, Option.some.inj hF, h_end hGr hr hS ht hWm⟩, hS.F ht⟩) hS.2.2 dX1_count_86
        · replace hF := it_f c11 hF
          rcases Decidable.em (p1 = 4) with c14 | c14
          · replace hF := it_t c14 hF
            refine lv_tableIn (off := 86) (tgt := 87) hx hb dX1_count_1 (by rw [c14]; decide) (by rw [c14]; decide) (by rw [c14]; rfl) (by decide) ?_
            refine lv_aload_n hx hb dX1_count_87 rfl (lv_at hl 0 rfl) ?_
            obtain ⟨fs15, x15_, e15, f15, hF⟩ := gQ_s hF
            refine h_get (C := RX1) (T := TX1) (N := 7) hx hb hts in_X1 hown hGr hr e15 (by decide) rfl 0 (by decide) (hts _ q633) (fun _ h9 => h9) f15 dX1_count_88 ?_
            obtain ⟨fs16, x16_, e16, f16, hF⟩ := gI_s hF
            refine h_getN (C := RX2) (T := TX2) (N := 11) hx hb hts in_X2 hown hGr hr e16 (by decide) rfl 6 (by decide) (va_Nw.use rfl (hGr.nw q581 rfl)) (fun _ h9 => h9) f16 dX1_count_91 ?_
            refine lv_if_eq (tgt := 101) hx hb dX1_count_94 (by decide) (fun c17 => ?_) (fun c17 => ?_)
            · replace hF := it_t c17 hF
              refine lv_iconst (v := 0) hx hb dX1_count_101 (by decide) ?_
              have bz := bud_r hc hF hmc hms
              refine vx_ret ?_
              refine W.widen (k := mc) (n := ms) bz.1 bz.2 ?_
              exact W.iret (v := (0 : Int32)) hx hb hret (fun t ht hWm => ⟨⟨(0 : Int32), h, rfl, Option.some.inj hF, h_end hGr hr hS ht hWm⟩, hS.F ht⟩) hS.2.2 dX1_count_102
            · replace hF := it_f c17 hF
              refine lv_iconst (v := 1) hx hb dX1_count_97 (by decide) ?_
              refine lv_goto (tgt := 102) hx hb dX1_count_98 (by decide) ?_
              have bz := bud_r hc hF hmc hms
              refine vx_ret ?_
              refine W.widen (k := mc) (n := ms) bz.1 bz.2 ?_
              exact W.iret (v := (1 : Int32)) hx hb hret (fun t ht hWm => ⟨⟨(1 : Int32), h, rfl, Option.some.inj hF, h_end hGr hr hS ht hWm⟩, hS.F ht⟩) hS.2.2 dX1_count_102
          · replace hF := it_f c14 hF
            rcases Decidable.em (p1 = 5) with c18 | c18
            · replace hF := it_t c18 hF
              refine lv_tableIn (off := 102) (tgt := 103) hx hb dX1_count_1 (by rw [c18]; decide) (by rw [c18]; decide) (by rw [c18]; rfl) (by decide) ?_
              refine lv_aload_n hx hb dX1_count_103 rfl (lv_at hl 0 rfl) ?_
              obtain ⟨fs19, x19_, e19, f19, hF⟩ := gQ_s hF
              refine h_get (C := RX1) (T := TX1) (N := 7) hx hb hts in_X1 hown hGr hr e19 (by decide) rfl 0 (by decide) (hts _ q633) (fun _ h9 => h9) f19 dX1_count_104 ?_
              obtain ⟨fs20, x20_, e20, f20, hF⟩ := gQ_s hF
              refine h_getN (C := RX2) (T := TX2) (N := 11) hx hb hts in_X2 hown hGr hr e20 (by decide) rfl 7 (by decide) (va_Nw.use rfl (hGr.nw q583 rfl)) (fun _ h9 => h9) f20 dX1_count_107 ?_
              obtain ⟨fc21, ec21, hF⟩ := gC_s hF
              obtain ⟨r21, u21, e21, hF⟩ := bnd_s hF
              have mm21 : hle u21 out.2 := (show Mo u21 _ from mo_ret hle_rf) _ hF
              obtain ⟨mc21, ms21, hmc21, hms21⟩ := up_of (moJ2_size h x20_ _ e21)
              replace hc := cst_call hc hmc21 hms21
              refine h_callFi (va_runF (hGr.K.1 10 _ rfl).2 (As := []) (rest := []) ⟨hx, hb, hml, hown, hts⟩ (mgJ2_size l D A h x20_ _ e21 mc21 ms21 hmc21 hms21) (va_cwF 0 hts (lw_app (lw_fi q1068 q875 q877 q106) (lw_meth q879)) rfl rfl rfl (fw_5 hGr) (by decide +kernel) ⟨Nat.le_of_ble_eq_true rfl, Nat.le_of_ble_eq_true rfl⟩) (h_preV hGr hr hS ec21 (by decide) (q := (RJ2, TJ2, 3)) rfl _) rfl rfl hl.1 rfl (lv_room (Nat.le_of_ble_eq_true rfl)) dX1_count_110 ⟨(bud hc mm21 hmc hms).1, (bud hc mm21 hmc hms).2⟩) hS (fun rr uu H locs hw hr hS => ?_)
              obtain rfl : u21 = uu := (congrArg Prod.snd hw).symm
              obtain rfl : r21 = rr := (congrArg Prod.fst hw).symm
              have bz := bud_r hc hF hmc hms
              refine vx_ret ?_
              refine W.widen (k := mc) (n := ms) bz.1 bz.2 ?_
              exact W.iret (v := r21) hx hb hret (fun t ht hWm => ⟨⟨r21, u21, rfl, Option.some.inj hF, h_end hGr hr hS ht hWm⟩, hS.F ht⟩) hS.2.2 dX1_count_115
            · replace hF := it_f c18 hF
              rcases Decidable.em (p1 = 6) with c22 | c22
              · replace hF := it_t c22 hF
                refine lv_tableIn (off := 115) (tgt := 116) hx hb dX1_count_1 (by rw [c22]; decide) (by rw [c22]; decide) (by rw [c22]; rfl) (by decide) ?_
                refine lv_aload_n hx hb dX1_count_116 rfl (lv_at hl 0 rfl) ?_
                obtain ⟨fs23, x23_, e23, f23, hF⟩ := gQ_s hF
                refine h_get (C := RX1) (T := TX1) (N := 7) hx hb hts in_X1 hown hGr hr e23 (by decide) rfl 0 (by decide) (hts _ q633) (fun _ h9 => h9) f23 dX1_count_117 ?_
                obtain ⟨fs24, x24_, e24, f24, hF⟩ := gQ_s hF
                refine h_getN (C := RX2) (T := TX2) (N := 11) hx hb hts in_X2 hown hGr hr e24 (by decide) rfl 8 (by decide) (va_Nw.use rfl (hGr.nw q585 rfl)) (fun _ h9 => h9) f24 dX1_count_120 ?_
                obtain ⟨fc25, ec25, hF⟩ := gC_s hF
                obtain ⟨r25, u25, e25, hF⟩ := bnd_s hF
                have mm25 : hle u25 out.2 := (show Mo u25 _ from mo_ret hle_rf) _ hF
                obtain ⟨mc25, ms25, hmc25, hms25⟩ := up_of (moJ2_size h x24_ _ e25)
                replace hc := cst_call hc hmc25 hms25
                refine h_callFi (va_runF (hGr.K.1 10 _ rfl).2 (As := []) (rest := []) ⟨hx, hb, hml, hown, hts⟩ (mgJ2_size l D A h x24_ _ e25 mc25 ms25 hmc25 hms25) (va_cwF 0 hts (lw_app (lw_fi q1068 q875 q877 q106) (lw_meth q879)) rfl rfl rfl (fw_5 hGr) (by decide +kernel) ⟨Nat.le_of_ble_eq_true rfl, Nat.le_of_ble_eq_true rfl⟩) (h_preV hGr hr hS ec25 (by decide) (q := (RJ2, TJ2, 3)) rfl _) rfl rfl hl.1 rfl (lv_room (Nat.le_of_ble_eq_true rfl)) dX1_count_123 ⟨(bud hc mm25 hmc hms).1, (bud hc mm25 hmc hms).2⟩) hS (fun rr uu H locs hw hr hS => ?_)
                obtain rfl : u25 = uu := (congrArg Prod.snd hw).symm
                obtain rfl : r25 = rr := (congrArg Prod.fst hw).symm
                have bz := bud_r hc hF hmc hms
                refine vx_ret ?_
                refine W.widen (k := mc) (n := ms) bz.1 bz.2 ?_
                exact W.iret (v := r25) hx hb hret (fun t ht hWm => ⟨⟨r25, u25, rfl, Option.some.inj hF, h_end hGr hr hS ht hWm⟩, hS.F ht⟩) hS.2.2 dX1_count_128
              · replace hF := it_f c22 hF
                rcases Decidable.em (p1 = 7) with c26 | c26
                · replace hF := it_t c26 hF
                  refine lv_tableIn (off := 128) (tgt := 129) hx hb dX1_count_1 (by rw [c26]; decide) (by rw [c26]; decide) (by rw [c26]; rfl) (by decide) ?_
                  refine lv_aload_n hx hb dX1_count_129 rfl (lv_at hl 0 rfl) ?_
                  obtain ⟨fs27, x27_, e27, f27, hF⟩ := gQ_s hF
                  refine h_get (C := RX1) (T := TX1) (N := 7) hx hb hts in_X1 hown hGr hr e27 (by decide) rfl 0 (by decide) (hts _ q633) (fun _ h9 => h9) f27 dX1_count_130 ?_
                  obtain ⟨fs28, x28_, e28, f28, hF⟩ := gI_s hF
                  refine h_getN (C := RX2) (T := TX2) (N := 11) hx hb hts in_X2 hown hGr hr e28 (by decide) rfl 9 (by decide) (va_Nw.use rfl (hGr.nw q587 rfl)) (fun _ h9 => h9) f28 dX1_count_133 ?_
                  have bz := bud_r hc hF hmc hms
                  refine vx_ret ?_
                  refine W.widen (k := mc) (n := ms) bz.1 bz.2 ?_
                  exact W.iret (v := x28_) hx hb hret (fun t ht hWm => ⟨⟨x28_, h, rfl, Option.some.inj hF, h_end hGr hr hS ht hWm⟩, hS.F ht⟩) hS.2.2 dX1_count_136
                · replace hF := it_f c26 hF
                  rcases Decidable.em (p1 = 8) with c29 | c29
                  · replace hF := it_t c29 hF
                    refine lv_tableIn (off := 136) (tgt := 137) hx hb dX1_count_1 (by rw [c29]; decide) (by rw [c29]; decide) (by rw [c29]; rfl) (by decide) ?_
                    refine lv_aload_n hx hb dX1_count_137 rfl (lv_at hl 0 rfl) ?_
                    obtain ⟨fs30, x30_, e30, f30, hF⟩ := gQ_s hF
                    refine h_get (C := RX1) (T := TX1) (N := 7) hx hb hts in_X1 hown hGr hr e30 (by decide) rfl 0 (by decide) (hts _ q633) (fun _ h9 => h9) f30 dX1_count_138 ?_
                    obtain ⟨fs31, x31_, e31, f31, hF⟩ := gI_s hF
                    refine h_getN (C := RX2) (T := TX2) (N := 11) hx hb hts in_X2 hown hGr hr e31 (by decide) rfl 10 (by decide) (va_Nw.use rfl (hGr.nw q589 rfl)) (fun _ h9 => h9) f31 dX1_count_141 ?_
                    have bz := bud_r hc hF hmc hms
                    refine vx_ret ?_
                    refine W.widen (k := mc) (n := ms) bz.1 bz.2 ?_
                    exact W.iret (v := x31_) hx hb hret (fun t ht hWm => ⟨⟨x31_, h, rfl, Option.some.inj hF, h_end hGr hr hS ht hWm⟩, hS.F ht⟩) hS.2.2 dX1_count_144
                  · replace hF := it_f c29 hF
                    refine lv_tableOut (tgt := 145) hx hb dX1_count_1 (tb_out9 c1 c5 c8 c11 c14 c18 c22 c26 c29) (by decide) ?_
                    exact h_throw (k := 1) (by decide) hx hb hl0 (by rw [hml]; exact hl.1.symm) hown (by decide +kernel) (hts _ q1426) (hts _ q110) (h_xat1 hts hGr) h_xgd1 hGr hr hS htb hlocks dX1_count_145 dX1_count_148 dX1_count_149 dX1_count_152 hc hF hmc hms (Nat.le_of_ble_eq_true rfl) (Nat.le_of_ble_eq_true rfl) (Nat.le_refl _) (Nat.le_refl _)

def GX1_requirePlaces_1 (R : Nat → Hp → Nat → Nat → Nat → Int32 → Int32 → Option ((Int32 ⊕ Xq) × Hp)) (n : Nat) (h : Hp) (b0 : Nat) (b1 : Nat) (b2 : Nat) (x3 : Int32) (x4 : Int32) : Option ((Int32 ⊕ Xq) × Hp) := if x3 ≤ x4 then some (.inl 0, h) else aI h b2 0 x4 (fun x3_ => gQ h b0 1 0 (fun x4_ => gI h x4_ 2 1 (fun x5_ => bnx (GX1_requireIndex h x3_ x5_) (fun r6 u6 => R 1 u6 b0 b1 b2 x3 (x4 + 1)))))
def GX1_requirePlaces_r : Nat → Nat → Hp → Nat → Nat → Nat → Int32 → Int32 → Option ((Int32 ⊕ Xq) × Hp)
  | 0 => fun _ _ _ _ _ _ _ => none
  | n + 1 => fun k => match k with  | _ => GX1_requirePlaces_1 (GX1_requirePlaces_r n) n
def GX1_requirePlaces_0 (R : Nat → Hp → Nat → Nat → Nat → Int32 → Int32 → Option ((Int32 ⊕ Xq) × Hp)) (n : Nat) (h : Hp) (a0 : Nat) (a1 : Nat) : Option ((Int32 ⊕ Xq) × Hp) := aL h a1 (fun x1_ => R 1 h a0 a1 a1 x1_ (0 : Int32))
def GX1_requirePlaces (n : Nat) (h : Hp) (a0 : Nat) (a1 : Nat) : Option ((Int32 ⊕ Xq) × Hp) := GX1_requirePlaces_0 (GX1_requirePlaces_r n) n h a0 a1
theorem moX1_requirePlaces_r (n : Nat) : (∀ (h : Hp) (b0 : Nat) (b1 : Nat) (b2 : Nat) (x3 : Int32) (x4 : Int32), Mo h (GX1_requirePlaces_r n 1 h b0 b1 b2 x3 x4)) := by
  induction n with
  | zero => exact (fun _ _ _ _ _ _ => mo_no)
  | succ n ih =>
    have ml1 := ih
    exact (fun h b0 b1 b2 x3 x4 => show Mo h (GX1_requirePlaces_1 (GX1_requirePlaces_r n) n h b0 b1 b2 x3 x4) from by unfold GX1_requirePlaces_1; exact mo_ite (mo_ret hle_rf) (mo_aI (fun x3_ => mo_gQ (fun x4_ => mo_gI (fun x5_ => mo_bnx (moX1_requireIndex h x3_ x5_) hle_rf (fun r6 u6 m6 => mo_tr m6 (ml1 u6 b0 b1 b2 x3 (x4 + 1))))))))
theorem moX1_requirePlaces (n : Nat) (h : Hp) (a0 : Nat) (a1 : Nat) : Mo h (GX1_requirePlaces n h a0 a1) := by
  have ml1 := moX1_requirePlaces_r n
  unfold GX1_requirePlaces GX1_requirePlaces_0
  exact mo_aL (fun x1_ => mo_tr hle_rf (ml1 h a0 a1 a1 x1_ (0 : Int32)))
set_option maxHeartbeats 4000000 in
set_option maxRecDepth 100000 in
theorem mgX1_requirePlaces (l : Launch) (hl0 : l.stackTraces = false) (D : HD) (A : Nat → Prop) (h : Hp) (n : Nat) (a0 : Nat) (a1 : Nat) (out : (Int32 ⊕ Xq) × Hp) (hF : GX1_requirePlaces n h a0 a1 = some out) (mc ms : Nat) (hmc : hCc out.2 = hCc h + mc) (hms : hSl out.2 = hSl h + ms) : vx_Met l yX1_requirePlaces (ws_ yX1_requirePlaces cX1_requirePlaces 6 none) ({ frames := 7, cells := mc, slots := ms, locals := 121 }) (va_Pc [.ref a0, .ref a1] (hW D A h)) (va_Qv (fun u => ((.inl 0 : Int32 ⊕ Xq), u) = out) (hW D A) A) (xC D A out) mc ms A := by
  refine vx_ofW (cc := cX1_requirePlaces) (maxL := 6) (ret := none) (by decide +kernel) rfl ?_
  intro p e s m args below meth c s₁ B hml htb hv
  obtain ⟨rfl, hr, hGr⟩ := hv
  have hx := B.exec
  have hb := B.bytes
  have hret := B.returns
  have hts := atoms_spec (ws := (ws_ yX1_requirePlaces cX1_requirePlaces 6 none)) B.pre
  have hts : ∀ w ∈ lw_all, w.before _ s = true := fun w h => hts w (List.mem_cons_of_mem _ h)
  have hown : s.vm.findClass RX1 = some m.cls := findClass_of_methodNamed B.named
  have hlocks := B.notSynchronized
  have hS : va_S A s.heap s.heap [] := va_S.rf
  have hc : cst h 0 0 h := cst_0
  have hl := lv_entry ([.ref a0, .ref a1]) (n := 6) (Nat.le_of_ble_eq_true rfl)
  rw [lg_entry_eq]
  generalize (lg_sl ([.ref a0, .ref a1]) ++ List.replicate (6 - (lg_sl ([.ref a0, .ref a1])).length) Slot.unset).toArray = ls at hl ⊢
  have hl : lv_has ls 6 [(0, .ref a0), (1, .ref a1)] := hl
  obtain ⟨h0, eh0⟩ : ∃ z, z = h := ⟨_, rfl⟩
  rw [← eh0] at hmc hms
  have loop : ∀ n : Nat, (∀ (h : Hp) (b0 : Nat) (b1 : Nat) (b2 : Nat) (x3 : Int32) (x4 : Int32), GX1_requirePlaces_r n 1 h b0 b1 b2 x3 x4 = some out → ∀ (H : Heap) (locs : List Loc) (cells slots : Nat), cst h0 cells slots h → hR D A h H → va_S A s.heap H locs → ∀ ls : Array Slot, lv_has ls 6 [(0, .ref b0), (1, .ref b1), (2, .ref b2), (3, .int x3), (4, .int x4)] → W p l e (headSpec (ws_ yX1_requirePlaces cX1_requirePlaces 6 none) ({ frames := 7, cells := mc, slots := ms, locals := 121 })).room s m ([.ref a0, .ref a1] : List Value).toArray below meth c H locs cells slots (vx_MQ below (va_Qv (fun u => ((.inl 0 : Int32 ⊕ Xq), u) = out) (hW D A) A) (xC D A out) ([.ref a0, .ref a1] : List Value).toArray s mc ms A) (F0 m 8 ls [])) := by
    intro n
    induction n with
    | zero => exact (fun _ _ _ _ _ _ h => nomatch h)
    | succ n ih =>
      have lp1 := ih
      have ml1 := moX1_requirePlaces_r n
      intro h b0 b1 b2 x3 x4 hF H locs cells slots hc hr hS ls hl
      replace hF : GX1_requirePlaces_1 (GX1_requirePlaces_r n) n h b0 b1 b2 x3 x4 = some out := hF
      unfold GX1_requirePlaces_1 at hF
      refine lv_iload hx hb dX1_requirePlaces_8 (lv_at hl 4 rfl) ?_
      refine lv_iload_n hx hb dX1_requirePlaces_10 rfl (lv_at hl 3 rfl) ?_
      refine lv_icmp_ge (tgt := 38) hx hb dX1_requirePlaces_11 (by decide) (fun c2 => ?_) (fun c2 => ?_)
      · replace hF := it_t c2 hF
        have bz := bud_r hc hF hmc hms
        refine vx_ret ?_
        refine W.widen (k := mc) (n := ms) bz.1 bz.2 ?_
        exact W.vret hx hb hret (fun t ht hWm => ⟨⟨h, rfl, Option.some.inj hF, h_end hGr hr hS ht hWm⟩, hS.F ht⟩) hS.2.2 dX1_requirePlaces_38
      · replace hF := it_f c2 hF
        refine lv_aload_n hx hb dX1_requirePlaces_14 rfl (lv_at hl 2 rfl) ?_
        refine lv_iload hx hb dX1_requirePlaces_15 (lv_at hl 4 rfl) ?_
        obtain ⟨n3, f3, e3, g3, hF⟩ := aI_s hF
        obtain ⟨x3_, ex3⟩ : ∃ z, z = f3 (x4).toNatClampNeg := ⟨_, rfl⟩
        rw [← ex3] at hF
        refine h_iald hx hb hGr hr 0 rfl e3 g3 dX1_requirePlaces_17 ?_
        rw [← ex3]
        refine lv_istore (lv' := [(5, .int x3_), (0, .ref b0), (1, .ref b1), (2, .ref b2), (3, .int x3), (4, .int x4)]) hx hb dX1_requirePlaces_18 hl (by decide) rfl (fun ls hl => ?_)
        refine lv_iload hx hb dX1_requirePlaces_20 (lv_at hl 0 rfl) ?_
        refine lv_aload_n hx hb dX1_requirePlaces_22 rfl (lv_at hl 1 rfl) ?_
        obtain ⟨fs4, x4_, e4, f4, hF⟩ := gQ_s hF
        refine h_get (C := RX1) (T := TX1) (N := 7) hx hb hts in_X1 hown hGr hr e4 (by decide) rfl 0 (by decide) (hts _ q633) (fun _ h9 => h9) f4 dX1_requirePlaces_23 ?_
        obtain ⟨fs5, x5_, e5, f5, hF⟩ := gI_s hF
        refine h_getN (C := RX2) (T := TX2) (N := 11) hx hb hts in_X2 hown hGr hr e5 (by decide) rfl 1 (by decide) (va_Nw.use rfl (hGr.nw q567 rfl)) (fun _ h9 => h9) f5 dX1_requirePlaces_26 ?_
        rcases bnx_s hF with ⟨r6, u6, e6, hF⟩ | ⟨q6, u6, e6, hF⟩
        rotate_left
        · obtain ⟨mc6, ms6, hmc6, hms6⟩ := up_of (moX1_requireIndex h x3_ x5_ _ e6)
          have hcx := cst_call hc hmc6 hms6
          have bx6 := bud_r hcx hF hmc hms
          refine h_xthrv rfl (vx_runS (As := [.int x3_, .int x5_]) (rest := []) ⟨hx, hb, hml, hown, hts⟩ (mgX1_requireIndex l hl0 D A h x3_ x5_ _ e6 mc6 ms6 hmc6 hms6) (va_cwS 2 hts (lw_S q1693 q1694 q101 q1695) rfl rfl rfl (by decide +kernel) ⟨Nat.le_of_ble_eq_true rfl, Nat.le_of_ble_eq_true rfl⟩) (h_preS hGr hr hS _) rfl rfl hl.1 rfl (lv_room (Nat.le_of_ble_eq_true rfl)) dX1_requirePlaces_29 ⟨bx6.1, bx6.2⟩) hS (fun E9 q9 u9 H locs ce9 e1 e2 e3 hr hS h1 h2 h3 => ?_)
          exact h_xpass hGr htb hlocks hF bx6 e1 e2 e3 hr hS h1 h2 h3
        have mm6 : hle u6 out.2 := (show Mo u6 _ from mo_tr hle_rf (ml1 u6 b0 b1 b2 x3 (x4 + 1))) _ hF
        obtain ⟨mc6, ms6, hmc6, hms6⟩ := up_of (moX1_requireIndex h x3_ x5_ _ e6)
        replace hc := cst_call hc hmc6 hms6
        refine h_xretv rfl (vx_runS (As := [.int x3_, .int x5_]) (rest := []) ⟨hx, hb, hml, hown, hts⟩ (mgX1_requireIndex l hl0 D A h x3_ x5_ _ e6 mc6 ms6 hmc6 hms6) (va_cwS 2 hts (lw_S q1693 q1694 q101 q1695) rfl rfl rfl (by decide +kernel) ⟨Nat.le_of_ble_eq_true rfl, Nat.le_of_ble_eq_true rfl⟩) (h_preS hGr hr hS _) rfl rfl hl.1 rfl (lv_room (Nat.le_of_ble_eq_true rfl)) dX1_requirePlaces_29 ⟨(bud hc mm6 hmc hms).1, (bud hc mm6 hmc hms).2⟩) hS (fun H locs hr hS => ?_)
        refine lv_iinc (v := (x4 + 1)) (lv' := [(4, .int (x4 + 1)), (5, .int x3_), (0, .ref b0), (1, .ref b1), (2, .ref b2), (3, .int x3)]) hx hb dX1_requirePlaces_32 hl (k := 5) rfl rfl (by decide) rfl (fun ls hl => ?_)
        refine lv_goto (tgt := 8) hx hb dX1_requirePlaces_35 (by decide) ?_
        exact lp1 u6 b0 b1 b2 x3 (x4 + 1) hF _ _ _ _ hc hr hS ls (lv_sub hl [2, 3, 4, 5, 0] rfl)
  have lp1 := loop n
  have ml1 := moX1_requirePlaces_r n
  have hc : cst h0 0 0 h := by rw [eh0]; exact cst_0
  unfold GX1_requirePlaces GX1_requirePlaces_0 at hF
  refine lv_aload_n hx hb dX1_requirePlaces_0 rfl (lv_at hl 1 rfl) ?_
  refine lv_astore_n (lv' := [(2, .ref a1), (0, .ref a0), (1, .ref a1)]) hx hb dX1_requirePlaces_1 rfl hl (by decide) rfl (fun ls hl => ?_)
  refine lv_aload_n hx hb dX1_requirePlaces_2 rfl (lv_at hl 0 rfl) ?_
  obtain ⟨k1, y1, e1, g1, hF⟩ := aL_s hF
  obtain ⟨x1_, ex1⟩ : ∃ z, z = Int32.ofNat y1.1 := ⟨_, rfl⟩
  rw [← ex1] at hF
  refine h_alen hx hb hGr hr e1 g1 dX1_requirePlaces_3 ?_
  rw [← ex1]
  refine lv_istore_n (lv' := [(3, .int x1_), (2, .ref a1), (0, .ref a0), (1, .ref a1)]) hx hb dX1_requirePlaces_4 rfl hl (by decide) rfl (fun ls hl => ?_)
  refine lv_iconst (v := 0) hx hb dX1_requirePlaces_5 (by decide) ?_
  refine lv_istore (lv' := [(4, .int 0), (3, .int x1_), (2, .ref a1), (0, .ref a0), (1, .ref a1)]) hx hb dX1_requirePlaces_6 hl (by decide) rfl (fun ls hl => ?_)
  exact lp1 h a0 a1 a1 x1_ (0 : Int32) hF _ _ _ _ hc hr hS ls (lv_sub hl [3, 4, 2, 1, 0] rfl)

def GX1_requireNumber (h : Hp) (a0 : Nat) (p1 : Int32) : Option ((Int32 ⊕ Xq) × Hp) := gQ h a0 1 0 (fun x1_ => gQ h x1_ 2 0 (fun x2_ => gC h x2_ 3 (bnd (GX3_has h x2_ p1) (fun r3 u3 => bnx (GX1_requireArgument u3 r3) (fun r4 u4 => some (.inl 0, u4))))))
theorem moX1_requireNumber (h : Hp) (a0 : Nat) (p1 : Int32) : Mo h (GX1_requireNumber h a0 p1) := by
  unfold GX1_requireNumber
  exact mo_gQ (fun x1_ => mo_gQ (fun x2_ => mo_gC (mo_bnd (moX3_has h x2_ p1) hle_rf (fun r3 u3 m3 => mo_bnx (moX1_requireArgument u3 r3) m3 (fun r4 u4 m4 => mo_ret m4)))))
set_option maxHeartbeats 4000000 in
set_option maxRecDepth 100000 in
theorem mgX1_requireNumber (l : Launch) (hl0 : l.stackTraces = false) (D : HD) (A : Nat → Prop) (h : Hp) (a0 : Nat) (p1 : Int32) (out : (Int32 ⊕ Xq) × Hp) (hF : GX1_requireNumber h a0 p1 = some out) (mc ms : Nat) (hmc : hCc out.2 = hCc h + mc) (hms : hSl out.2 = hSl h + ms) : vx_Met l yX1_requireNumber (ws_ yX1_requireNumber cX1_requireNumber 2 none) ({ frames := 7, cells := mc, slots := ms, locals := 120 }) (va_Pc [.ref a0, .int p1] (hW D A h)) (va_Qv (fun u => ((.inl 0 : Int32 ⊕ Xq), u) = out) (hW D A) A) (xC D A out) mc ms A := by
  refine vx_ofW (cc := cX1_requireNumber) (maxL := 2) (ret := none) (by decide +kernel) rfl ?_
  intro p e s m args below meth c s₁ B hml htb hv
  obtain ⟨rfl, hr, hGr⟩ := hv
  have hx := B.exec
  have hb := B.bytes
  have hret := B.returns
  have hts := atoms_spec (ws := (ws_ yX1_requireNumber cX1_requireNumber 2 none)) B.pre
  have hts : ∀ w ∈ lw_all, w.before _ s = true := fun w h => hts w (List.mem_cons_of_mem _ h)
  have hown : s.vm.findClass RX1 = some m.cls := findClass_of_methodNamed B.named
  have hlocks := B.notSynchronized
  have hS : va_S A s.heap s.heap [] := va_S.rf
  have hc : cst h 0 0 h := cst_0
  have hl := lv_entry ([.ref a0, .int p1]) (n := 2) (Nat.le_of_ble_eq_true rfl)
  rw [lg_entry_eq]
  generalize (lg_sl ([.ref a0, .int p1]) ++ List.replicate (2 - (lg_sl ([.ref a0, .int p1])).length) Slot.unset).toArray = ls at hl ⊢
  have hl : lv_has ls 2 [(0, .ref a0), (1, .int p1)] := hl
  unfold GX1_requireNumber at hF
  refine lv_aload_n hx hb dX1_requireNumber_0 rfl (lv_at hl 0 rfl) ?_
  obtain ⟨fs1, x1_, e1, f1, hF⟩ := gQ_s hF
  refine h_get (C := RX1) (T := TX1) (N := 7) hx hb hts in_X1 hown hGr hr e1 (by decide) rfl 0 (by decide) (hts _ q633) (fun _ h9 => h9) f1 dX1_requireNumber_1 ?_
  obtain ⟨fs2, x2_, e2, f2, hF⟩ := gQ_s hF
  refine h_getN (C := RX2) (T := TX2) (N := 11) hx hb hts in_X2 hown hGr hr e2 (by decide) rfl 0 (by decide) (va_Nw.use rfl (hGr.nw q564 rfl)) (fun _ h9 => h9) f2 dX1_requireNumber_4 ?_
  refine lv_iload_n hx hb dX1_requireNumber_7 rfl (lv_at hl 1 rfl) ?_
  obtain ⟨fc3, ec3, hF⟩ := gC_s hF
  obtain ⟨r3, u3, e3, hF⟩ := bnd_s hF
  have mm3 : hle u3 out.2 := (show Mo u3 _ from mo_bnx (moX1_requireArgument u3 r3) hle_rf (fun r4 u4 m4 => mo_ret m4)) _ hF
  obtain ⟨mc3, ms3, hmc3, hms3⟩ := up_of (moX3_has h x2_ p1 _ e3)
  replace hc := cst_call hc hmc3 hms3
  refine h_calli (va_runV (As := [.int p1]) (rest := []) ⟨hx, hb, hml, hown, hts⟩ (mgX3_has l D A h x2_ p1 _ e3 mc3 ms3 hmc3 hms3) (cwV 1 hts (lw_V q1729 q1730 q1731 q103 q1732) rfl rfl rfl (by decide +kernel) ⟨Nat.le_of_ble_eq_true rfl, Nat.le_of_ble_eq_true rfl⟩) (h_preV hGr hr hS ec3 (by decide) (q := (RX3, TX3, 2)) rfl _) rfl rfl hl.1 rfl (lv_room (Nat.le_of_ble_eq_true rfl)) dX1_requireNumber_8 ⟨(bud hc mm3 hmc hms).1, (bud hc mm3 hmc hms).2⟩) hS (fun rr uu H locs hw hr hS => ?_)
  obtain rfl : u3 = uu := (congrArg Prod.snd hw).symm
  obtain rfl : r3 = rr := (congrArg Prod.fst hw).symm
  rcases bnx_s hF with ⟨r4, u4, e4, hF⟩ | ⟨q4, u4, e4, hF⟩
  rotate_left
  · obtain ⟨mc4, ms4, hmc4, hms4⟩ := up_of (moX1_requireArgument u3 r3 _ e4)
    have hcx := cst_call hc hmc4 hms4
    have bx4 := bud_r hcx hF hmc hms
    refine h_xthrv rfl (vx_runS (As := [.int r3]) (rest := []) ⟨hx, hb, hml, hown, hts⟩ (mgX1_requireArgument l hl0 D A u3 r3 _ e4 mc4 ms4 hmc4 hms4) (va_cwS 1 hts (lw_S q1423 q1424 q101 q1425) rfl rfl rfl (by decide +kernel) ⟨Nat.le_of_ble_eq_true rfl, Nat.le_of_ble_eq_true rfl⟩) (h_preS hGr hr hS _) rfl rfl hl.1 rfl (lv_room (Nat.le_of_ble_eq_true rfl)) dX1_requireNumber_11 ⟨bx4.1, bx4.2⟩) hS (fun E9 q9 u9 H locs ce9 e1 e2 e3 hr hS h1 h2 h3 => ?_)
    exact h_xpass hGr htb hlocks hF bx4 e1 e2 e3 hr hS h1 h2 h3
  have mm4 : hle u4 out.2 := (show Mo u4 _ from mo_ret hle_rf) _ hF
  obtain ⟨mc4, ms4, hmc4, hms4⟩ := up_of (moX1_requireArgument u3 r3 _ e4)
  replace hc := cst_call hc hmc4 hms4
  refine h_xretv rfl (vx_runS (As := [.int r3]) (rest := []) ⟨hx, hb, hml, hown, hts⟩ (mgX1_requireArgument l hl0 D A u3 r3 _ e4 mc4 ms4 hmc4 hms4) (va_cwS 1 hts (lw_S q1423 q1424 q101 q1425) rfl rfl rfl (by decide +kernel) ⟨Nat.le_of_ble_eq_true rfl, Nat.le_of_ble_eq_true rfl⟩) (h_preS hGr hr hS _) rfl rfl hl.1 rfl (lv_room (Nat.le_of_ble_eq_true rfl)) dX1_requireNumber_11 ⟨(bud hc mm4 hmc hms).1, (bud hc mm4 hmc hms).2⟩) hS (fun H locs hr hS => ?_)
  have bz := bud_r hc hF hmc hms
  refine vx_ret ?_
  refine W.widen (k := mc) (n := ms) bz.1 bz.2 ?_
  exact W.vret hx hb hret (fun t ht hWm => ⟨⟨u4, rfl, Option.some.inj hF, h_end hGr hr hS ht hWm⟩, hS.F ht⟩) hS.2.2 dX1_requireNumber_14

def GX1_cell (n : Nat) (h : Hp) (a0 : Nat) (p1 : Int32) (p2 : Int32) : Option ((Int32 ⊕ Xq) × Hp) := nA h 0 (2 : Int32) (fun a1_ h1 => sI h1 a1_ 0 (0 : Int32) p1 (fun h2 => sI h2 a1_ 0 (1 : Int32) p2 (fun h3 => gC h3 a0 1 (bnx (GX1_requirePlaces n h3 a0 a1_) (fun r4 u4 => gQ u4 a0 1 0 (fun x5_ => gQ u4 x5_ 2 2 (fun x6_ => aQ u4 x6_ 4 p1 (fun x7_ => aI u4 x7_ 0 p2 (fun x8_ => some (.inl x8_, u4))))))))))
theorem moX1_cell (n : Nat) (h : Hp) (a0 : Nat) (p1 : Int32) (p2 : Int32) : Mo h (GX1_cell n h a0 p1 p2) := by
  unfold GX1_cell
  exact mo_nA hle_rf (fun a1_ h1 m1 => mo_sI m1 (fun h2 m2 => mo_sI m2 (fun h3 m3 => mo_gC (mo_bnx (moX1_requirePlaces n h3 a0 a1_) m3 (fun r4 u4 m4 => mo_gQ (fun x5_ => mo_gQ (fun x6_ => mo_aQ (fun x7_ => mo_aI (fun x8_ => mo_ret m4)))))))))
set_option maxHeartbeats 4000000 in
set_option maxRecDepth 100000 in
theorem mgX1_cell (l : Launch) (hl0 : l.stackTraces = false) (D : HD) (A : Nat → Prop) (h : Hp) (n : Nat) (a0 : Nat) (p1 : Int32) (p2 : Int32) (out : (Int32 ⊕ Xq) × Hp) (hF : GX1_cell n h a0 p1 p2 = some out) (mc ms : Nat) (hmc : hCc out.2 = hCc h + mc) (hms : hSl out.2 = hSl h + ms) : vx_Met l yX1_cell (ws_ yX1_cell cX1_cell 3 (some .int)) ({ frames := 8, cells := mc, slots := ms, locals := 146 }) (va_Pc [.ref a0, .int p1, .int p2] (hW D A h)) (va_Qi (fun r u => ((.inl r : Int32 ⊕ Xq), u) = out) (hW D A) A) (xC D A out) mc ms A := by
  refine vx_ofW (cc := cX1_cell) (maxL := 3) (ret := (some .int)) (by decide +kernel) rfl ?_
  intro p e s m args below meth c s₁ B hml htb hv
  obtain ⟨rfl, hr, hGr⟩ := hv
  have hx := B.exec
  have hb := B.bytes
  have hret := B.returns
  have hts := atoms_spec (ws := (ws_ yX1_cell cX1_cell 3 (some .int))) B.pre
  have hts : ∀ w ∈ lw_all, w.before _ s = true := fun w h => hts w (List.mem_cons_of_mem _ h)
  have hown : s.vm.findClass RX1 = some m.cls := findClass_of_methodNamed B.named
  have hlocks := B.notSynchronized
  have hS : va_S A s.heap s.heap [] := va_S.rf
  have hc : cst h 0 0 h := cst_0
  have hl := lv_entry ([.ref a0, .int p1, .int p2]) (n := 3) (Nat.le_of_ble_eq_true rfl)
  rw [lg_entry_eq]
  generalize (lg_sl ([.ref a0, .int p1, .int p2]) ++ List.replicate (3 - (lg_sl ([.ref a0, .int p1, .int p2])).length) Slot.unset).toArray = ls at hl ⊢
  have hl : lv_has ls 3 [(0, .ref a0), (1, .int p1), (2, .int p2)] := hl
  unfold GX1_cell at hF
  refine lv_aload_n hx hb dX1_cell_0 rfl (lv_at hl 0 rfl) ?_
  refine lv_iconst (v := 2) hx hb dX1_cell_1 (by decide) ?_
  obtain ⟨a1_, h1, ea1, eh1, g1, hF⟩ := nA_s hF
  have mm1 : hle h1 out.2 := (show Mo h1 _ from mo_sI hle_rf (fun h2 m2 => mo_sI m2 (fun h3 m3 => mo_gC (mo_bnx (moX1_requirePlaces n h3 a0 a1_) m3 (fun r4 u4 m4 => mo_gQ (fun x5_ => mo_gQ (fun x6_ => mo_aQ (fun x7_ => mo_aI (fun x8_ => mo_ret m4))))))))) _ hF
  replace hc := cst_new hc eh1
  refine h_newI hx hb (hts _ q177) hGr hr hS g1 (bud hc mm1 hmc hms).1 (bud hc mm1 hmc hms).2 dX1_cell_2 (fun H hr hS => ?_)
  rw [← eh1] at hr
  rw [← ea1]
  refine lv_dup hx hb dX1_cell_4 rfl ?_
  refine lv_iconst (v := 0) hx hb dX1_cell_5 (by decide) ?_
  refine lv_iload_n hx hb dX1_cell_6 rfl (lv_at hl 1 rfl) ?_
  obtain ⟨n2, f2, e2, lo2, g2, hF⟩ := sI_s hF
  obtain ⟨h2, eh2⟩ : ∃ z, z = hPut h1 a1_ (.inl (0, n2, .inl (upd f2 ((0 : Int32)).toNatClampNeg p1))) := ⟨_, rfl⟩
  rw [← eh2] at hF
  refine h_iast hx hb hGr hr hS 0 rfl e2 (x := p1) g2 lo2 dX1_cell_7 (fun H locs hr hS => ?_)
  rw [← eh2] at hr
  replace hc := cst_put hc eh2
  refine lv_dup hx hb dX1_cell_8 rfl ?_
  refine lv_iconst (v := 1) hx hb dX1_cell_9 (by decide) ?_
  refine lv_iload_n hx hb dX1_cell_10 rfl (lv_at hl 2 rfl) ?_
  obtain ⟨n3, f3, e3, lo3, g3, hF⟩ := sI_s hF
  obtain ⟨h3, eh3⟩ : ∃ z, z = hPut h2 a1_ (.inl (0, n3, .inl (upd f3 ((1 : Int32)).toNatClampNeg p2))) := ⟨_, rfl⟩
  rw [← eh3] at hF
  refine h_iast hx hb hGr hr hS 0 rfl e3 (x := p2) g3 lo3 dX1_cell_11 (fun H locs hr hS => ?_)
  rw [← eh3] at hr
  replace hc := cst_put hc eh3
  obtain ⟨fc4, ec4, hF⟩ := gC_s hF
  rcases bnx_s hF with ⟨r4, u4, e4, hF⟩ | ⟨q4, u4, e4, hF⟩
  rotate_left
  · obtain ⟨mc4, ms4, hmc4, hms4⟩ := up_of (moX1_requirePlaces n h3 a0 a1_ _ e4)
    have hcx := cst_call hc hmc4 hms4
    have bx4 := bud_r hcx hF hmc hms
    refine h_xthrv rfl (vx_runV (As := [.ref a1_]) (rest := []) ⟨hx, hb, hml, hown, hts⟩ (mgX1_requirePlaces l hl0 D A h3 n a0 a1_ _ e4 mc4 ms4 hmc4 hms4) (cwV 1 hts (lw_V q1689 q1691 qs38 q101 q1692) rfl rfl rfl (by decide +kernel) ⟨Nat.le_of_ble_eq_true rfl, Nat.le_of_ble_eq_true rfl⟩) (h_preV hGr hr hS ec4 (by decide) (q := (RX1, TX1, 7)) rfl _) rfl rfl hl.1 rfl (lv_room (Nat.le_of_ble_eq_true rfl)) dX1_cell_12 ⟨bx4.1, bx4.2⟩) hS (fun E9 q9 u9 H locs ce9 e1 e2 e3 hr hS h1 h2 h3 => ?_)
    exact h_xpass hGr htb hlocks hF bx4 e1 e2 e3 hr hS h1 h2 h3
  have mm4 : hle u4 out.2 := (show Mo u4 _ from mo_gQ (fun x5_ => mo_gQ (fun x6_ => mo_aQ (fun x7_ => mo_aI (fun x8_ => mo_ret hle_rf))))) _ hF
  obtain ⟨mc4, ms4, hmc4, hms4⟩ := up_of (moX1_requirePlaces n h3 a0 a1_ _ e4)
  replace hc := cst_call hc hmc4 hms4
  refine h_xretv rfl (vx_runV (As := [.ref a1_]) (rest := []) ⟨hx, hb, hml, hown, hts⟩ (mgX1_requirePlaces l hl0 D A h3 n a0 a1_ _ e4 mc4 ms4 hmc4 hms4) (cwV 1 hts (lw_V q1689 q1691 qs38 q101 q1692) rfl rfl rfl (by decide +kernel) ⟨Nat.le_of_ble_eq_true rfl, Nat.le_of_ble_eq_true rfl⟩) (h_preV hGr hr hS ec4 (by decide) (q := (RX1, TX1, 7)) rfl _) rfl rfl hl.1 rfl (lv_room (Nat.le_of_ble_eq_true rfl)) dX1_cell_12 ⟨(bud hc mm4 hmc hms).1, (bud hc mm4 hmc hms).2⟩) hS (fun H locs hr hS => ?_)
  refine lv_aload_n hx hb dX1_cell_15 rfl (lv_at hl 0 rfl) ?_
  obtain ⟨fs5, x5_, e5, f5, hF⟩ := gQ_s hF
  refine h_get (C := RX1) (T := TX1) (N := 7) hx hb hts in_X1 hown hGr hr e5 (by decide) rfl 0 (by decide) (hts _ q633) (fun _ h9 => h9) f5 dX1_cell_16 ?_
  obtain ⟨fs6, x6_, e6, f6, hF⟩ := gQ_s hF
  refine h_getN (C := RX2) (T := TX2) (N := 11) hx hb hts in_X2 hown hGr hr e6 (by decide) rfl 2 (by decide) (va_Nw.use rfl (hGr.nw q569 rfl)) (fun _ h9 => h9) f6 dX1_cell_19 ?_
  refine lv_iload_n hx hb dX1_cell_22 rfl (lv_at hl 1 rfl) ?_
  obtain ⟨n7, f7, x7_, e7, g7, ex7, hF⟩ := aQ_s hF
  refine h_aald hx hb hGr hr (by decide) e7 g7 dX1_cell_23 (v := .ref x7_) (by rw [ex7]; rfl) ?_
  refine lv_iload_n hx hb dX1_cell_24 rfl (lv_at hl 2 rfl) ?_
  obtain ⟨n8, f8, e8, g8, hF⟩ := aI_s hF
  obtain ⟨x8_, ex8⟩ : ∃ z, z = f8 (p2).toNatClampNeg := ⟨_, rfl⟩
  rw [← ex8] at hF
  refine h_iald hx hb hGr hr 0 rfl e8 g8 dX1_cell_25 ?_
  rw [← ex8]
  have bz := bud_r hc hF hmc hms
  refine vx_ret ?_
  refine W.widen (k := mc) (n := ms) bz.1 bz.2 ?_
  exact W.iret (v := x8_) hx hb hret (fun t ht hWm => ⟨⟨x8_, u4, rfl, Option.some.inj hF, h_end hGr hr hS ht hWm⟩, hS.F ht⟩) hS.2.2 dX1_cell_26

def GX1_start (n : Nat) (h : Hp) (a0 : Nat) (p1 : Int32) : Option ((Int32 ⊕ Xq) × Hp) := nA h 0 (1 : Int32) (fun a1_ h1 => sI h1 a1_ 0 (0 : Int32) p1 (fun h2 => gC h2 a0 1 (bnx (GX1_requirePlaces n h2 a0 a1_) (fun r3 u3 => gQ u3 a0 1 0 (fun x4_ => gQ u3 x4_ 2 3 (fun x5_ => gQ u3 x5_ 4 0 (fun x6_ => aI u3 x6_ 0 p1 (fun x7_ => some (.inl x7_, u3)))))))))
theorem moX1_start (n : Nat) (h : Hp) (a0 : Nat) (p1 : Int32) : Mo h (GX1_start n h a0 p1) := by
  unfold GX1_start
  exact mo_nA hle_rf (fun a1_ h1 m1 => mo_sI m1 (fun h2 m2 => mo_gC (mo_bnx (moX1_requirePlaces n h2 a0 a1_) m2 (fun r3 u3 m3 => mo_gQ (fun x4_ => mo_gQ (fun x5_ => mo_gQ (fun x6_ => mo_aI (fun x7_ => mo_ret m3))))))))
set_option maxHeartbeats 4000000 in
set_option maxRecDepth 100000 in
theorem mgX1_start (l : Launch) (hl0 : l.stackTraces = false) (D : HD) (A : Nat → Prop) (h : Hp) (n : Nat) (a0 : Nat) (p1 : Int32) (out : (Int32 ⊕ Xq) × Hp) (hF : GX1_start n h a0 p1 = some out) (mc ms : Nat) (hmc : hCc out.2 = hCc h + mc) (hms : hSl out.2 = hSl h + ms) : vx_Met l yX1_start (ws_ yX1_start cX1_start 2 (some .int)) ({ frames := 8, cells := mc, slots := ms, locals := 146 }) (va_Pc [.ref a0, .int p1] (hW D A h)) (va_Qi (fun r u => ((.inl r : Int32 ⊕ Xq), u) = out) (hW D A) A) (xC D A out) mc ms A := by
  refine vx_ofW (cc := cX1_start) (maxL := 2) (ret := (some .int)) (by decide +kernel) rfl ?_
  intro p e s m args below meth c s₁ B hml htb hv
  obtain ⟨rfl, hr, hGr⟩ := hv
  have hx := B.exec
  have hb := B.bytes
  have hret := B.returns
  have hts := atoms_spec (ws := (ws_ yX1_start cX1_start 2 (some .int))) B.pre
  have hts : ∀ w ∈ lw_all, w.before _ s = true := fun w h => hts w (List.mem_cons_of_mem _ h)
  have hown : s.vm.findClass RX1 = some m.cls := findClass_of_methodNamed B.named
  have hlocks := B.notSynchronized
  have hS : va_S A s.heap s.heap [] := va_S.rf
  have hc : cst h 0 0 h := cst_0
  have hl := lv_entry ([.ref a0, .int p1]) (n := 2) (Nat.le_of_ble_eq_true rfl)
  rw [lg_entry_eq]
  generalize (lg_sl ([.ref a0, .int p1]) ++ List.replicate (2 - (lg_sl ([.ref a0, .int p1])).length) Slot.unset).toArray = ls at hl ⊢
  have hl : lv_has ls 2 [(0, .ref a0), (1, .int p1)] := hl
  unfold GX1_start at hF
  refine lv_aload_n hx hb dX1_start_0 rfl (lv_at hl 0 rfl) ?_
  refine lv_iconst (v := 1) hx hb dX1_start_1 (by decide) ?_
  obtain ⟨a1_, h1, ea1, eh1, g1, hF⟩ := nA_s hF
  have mm1 : hle h1 out.2 := (show Mo h1 _ from mo_sI hle_rf (fun h2 m2 => mo_gC (mo_bnx (moX1_requirePlaces n h2 a0 a1_) m2 (fun r3 u3 m3 => mo_gQ (fun x4_ => mo_gQ (fun x5_ => mo_gQ (fun x6_ => mo_aI (fun x7_ => mo_ret m3)))))))) _ hF
  replace hc := cst_new hc eh1
  refine h_newI hx hb (hts _ q177) hGr hr hS g1 (bud hc mm1 hmc hms).1 (bud hc mm1 hmc hms).2 dX1_start_2 (fun H hr hS => ?_)
  rw [← eh1] at hr
  rw [← ea1]
  refine lv_dup hx hb dX1_start_4 rfl ?_
  refine lv_iconst (v := 0) hx hb dX1_start_5 (by decide) ?_
  refine lv_iload_n hx hb dX1_start_6 rfl (lv_at hl 1 rfl) ?_
  obtain ⟨n2, f2, e2, lo2, g2, hF⟩ := sI_s hF
  obtain ⟨h2, eh2⟩ : ∃ z, z = hPut h1 a1_ (.inl (0, n2, .inl (upd f2 ((0 : Int32)).toNatClampNeg p1))) := ⟨_, rfl⟩
  rw [← eh2] at hF
  refine h_iast hx hb hGr hr hS 0 rfl e2 (x := p1) g2 lo2 dX1_start_7 (fun H locs hr hS => ?_)
  rw [← eh2] at hr
  replace hc := cst_put hc eh2
  obtain ⟨fc3, ec3, hF⟩ := gC_s hF
  rcases bnx_s hF with ⟨r3, u3, e3, hF⟩ | ⟨q3, u3, e3, hF⟩
  rotate_left
  · obtain ⟨mc3, ms3, hmc3, hms3⟩ := up_of (moX1_requirePlaces n h2 a0 a1_ _ e3)
    have hcx := cst_call hc hmc3 hms3
    have bx3 := bud_r hcx hF hmc hms
    refine h_xthrv rfl (vx_runV (As := [.ref a1_]) (rest := []) ⟨hx, hb, hml, hown, hts⟩ (mgX1_requirePlaces l hl0 D A h2 n a0 a1_ _ e3 mc3 ms3 hmc3 hms3) (cwV 1 hts (lw_V q1689 q1691 qs38 q101 q1692) rfl rfl rfl (by decide +kernel) ⟨Nat.le_of_ble_eq_true rfl, Nat.le_of_ble_eq_true rfl⟩) (h_preV hGr hr hS ec3 (by decide) (q := (RX1, TX1, 7)) rfl _) rfl rfl hl.1 rfl (lv_room (Nat.le_of_ble_eq_true rfl)) dX1_start_8 ⟨bx3.1, bx3.2⟩) hS (fun E9 q9 u9 H locs ce9 e1 e2 e3 hr hS h1 h2 h3 => ?_)
    exact h_xpass hGr htb hlocks hF bx3 e1 e2 e3 hr hS h1 h2 h3
  have mm3 : hle u3 out.2 := (show Mo u3 _ from mo_gQ (fun x4_ => mo_gQ (fun x5_ => mo_gQ (fun x6_ => mo_aI (fun x7_ => mo_ret hle_rf))))) _ hF
  obtain ⟨mc3, ms3, hmc3, hms3⟩ := up_of (moX1_requirePlaces n h2 a0 a1_ _ e3)
  replace hc := cst_call hc hmc3 hms3
  refine h_xretv rfl (vx_runV (As := [.ref a1_]) (rest := []) ⟨hx, hb, hml, hown, hts⟩ (mgX1_requirePlaces l hl0 D A h2 n a0 a1_ _ e3 mc3 ms3 hmc3 hms3) (cwV 1 hts (lw_V q1689 q1691 qs38 q101 q1692) rfl rfl rfl (by decide +kernel) ⟨Nat.le_of_ble_eq_true rfl, Nat.le_of_ble_eq_true rfl⟩) (h_preV hGr hr hS ec3 (by decide) (q := (RX1, TX1, 7)) rfl _) rfl rfl hl.1 rfl (lv_room (Nat.le_of_ble_eq_true rfl)) dX1_start_8 ⟨(bud hc mm3 hmc hms).1, (bud hc mm3 hmc hms).2⟩) hS (fun H locs hr hS => ?_)
  refine lv_aload_n hx hb dX1_start_11 rfl (lv_at hl 0 rfl) ?_
  obtain ⟨fs4, x4_, e4, f4, hF⟩ := gQ_s hF
  refine h_get (C := RX1) (T := TX1) (N := 7) hx hb hts in_X1 hown hGr hr e4 (by decide) rfl 0 (by decide) (hts _ q633) (fun _ h9 => h9) f4 dX1_start_12 ?_
  obtain ⟨fs5, x5_, e5, f5, hF⟩ := gQ_s hF
  refine h_getN (C := RX2) (T := TX2) (N := 11) hx hb hts in_X2 hown hGr hr e5 (by decide) rfl 3 (by decide) (va_Nw.use rfl (hGr.nw q572 rfl)) (fun _ h9 => h9) f5 dX1_start_15 ?_
  obtain ⟨fs6, x6_, e6, f6, hF⟩ := gQ_s hF
  refine h_getN (C := RX4) (T := TX4) (N := 1) hx hb hts in_X4 hown hGr hr e6 (by decide) rfl 0 (by decide) (va_Nw.use rfl (hGr.nw q557 rfl)) (fun _ h9 => h9) f6 dX1_start_18 ?_
  refine lv_iload_n hx hb dX1_start_21 rfl (lv_at hl 1 rfl) ?_
  obtain ⟨n7, f7, e7, g7, hF⟩ := aI_s hF
  obtain ⟨x7_, ex7⟩ : ∃ z, z = f7 (p1).toNatClampNeg := ⟨_, rfl⟩
  rw [← ex7] at hF
  refine h_iald hx hb hGr hr 0 rfl e7 g7 dX1_start_22 ?_
  rw [← ex7]
  have bz := bud_r hc hF hmc hms
  refine vx_ret ?_
  refine W.widen (k := mc) (n := ms) bz.1 bz.2 ?_
  exact W.iret (v := x7_) hx hb hret (fun t ht hWm => ⟨⟨x7_, u3, rfl, Option.some.inj hF, h_end hGr hr hS ht hWm⟩, hS.F ht⟩) hS.2.2 dX1_start_23

def GX1_setStart (n : Nat) (h : Hp) (a0 : Nat) (p1 : Int32) (p2 : Int32) : Option ((Int32 ⊕ Xq) × Hp) := nA h 0 (1 : Int32) (fun a1_ h1 => sI h1 a1_ 0 (0 : Int32) p1 (fun h2 => gC h2 a0 1 (bnx (GX1_requirePlaces n h2 a0 a1_) (fun r3 u3 => gC u3 a0 1 (bnx (GX1_requireNumber u3 a0 p2) (fun r4 u4 => gQ u4 a0 1 0 (fun x5_ => gQ u4 x5_ 2 3 (fun x6_ => gQ u4 x6_ 4 0 (fun x7_ => aI u4 x7_ 0 p1 (fun x8_ => gC u4 a0 1 (bnd (GX1_changed n u4 a0) (fun r9 u9 => gQ u9 r9 2 3 (fun x10_ => gC u9 x10_ 4 (bnd (GX4_with u9 x10_ p1 p2) (fun r11 u11 => pV u11 r9 2 3 (.ref r11) (fun h12 => some (.inl x8_, h12)))))))))))))))))
theorem moX1_setStart (n : Nat) (h : Hp) (a0 : Nat) (p1 : Int32) (p2 : Int32) : Mo h (GX1_setStart n h a0 p1 p2) := by
  unfold GX1_setStart
  exact mo_nA hle_rf (fun a1_ h1 m1 => mo_sI m1 (fun h2 m2 => mo_gC (mo_bnx (moX1_requirePlaces n h2 a0 a1_) m2 (fun r3 u3 m3 => mo_gC (mo_bnx (moX1_requireNumber u3 a0 p2) m3 (fun r4 u4 m4 => mo_gQ (fun x5_ => mo_gQ (fun x6_ => mo_gQ (fun x7_ => mo_aI (fun x8_ => mo_gC (mo_bnd (moX1_changed n u4 a0) m4 (fun r9 u9 m9 => mo_gQ (fun x10_ => mo_gC (mo_bnd (moX4_with u9 x10_ p1 p2) m9 (fun r11 u11 m11 => mo_pV m11 (fun h12 m12 => mo_ret m12))))))))))))))))
set_option maxHeartbeats 4000000 in
set_option maxRecDepth 100000 in
theorem mgX1_setStart (l : Launch) (hl0 : l.stackTraces = false) (D : HD) (A : Nat → Prop) (h : Hp) (n : Nat) (a0 : Nat) (p1 : Int32) (p2 : Int32) (out : (Int32 ⊕ Xq) × Hp) (hF : GX1_setStart n h a0 p1 p2 = some out) (mc ms : Nat) (hmc : hCc out.2 = hCc h + mc) (hms : hSl out.2 = hSl h + ms) : vx_Met l yX1_setStart (ws_ yX1_setStart cX1_setStart 5 (some .int)) ({ frames := 8, cells := mc, slots := ms, locals := 234 }) (va_Pc [.ref a0, .int p1, .int p2] (hW D A h)) (va_Qi (fun r u => ((.inl r : Int32 ⊕ Xq), u) = out) (hW D A) A) (xC D A out) mc ms A := by
  refine vx_ofW (cc := cX1_setStart) (maxL := 5) (ret := (some .int)) (by decide +kernel) rfl ?_
  intro p e s m args below meth c s₁ B hml htb hv
  obtain ⟨rfl, hr, hGr⟩ := hv
  have hx := B.exec
  have hb := B.bytes
  have hret := B.returns
  have hts := atoms_spec (ws := (ws_ yX1_setStart cX1_setStart 5 (some .int))) B.pre
  have hts : ∀ w ∈ lw_all, w.before _ s = true := fun w h => hts w (List.mem_cons_of_mem _ h)
  have hown : s.vm.findClass RX1 = some m.cls := findClass_of_methodNamed B.named
  have hlocks := B.notSynchronized
  have hS : va_S A s.heap s.heap [] := va_S.rf
  have hc : cst h 0 0 h := cst_0
  have hl := lv_entry ([.ref a0, .int p1, .int p2]) (n := 5) (Nat.le_of_ble_eq_true rfl)
  rw [lg_entry_eq]
  generalize (lg_sl ([.ref a0, .int p1, .int p2]) ++ List.replicate (5 - (lg_sl ([.ref a0, .int p1, .int p2])).length) Slot.unset).toArray = ls at hl ⊢
  have hl : lv_has ls 5 [(0, .ref a0), (1, .int p1), (2, .int p2)] := hl
  unfold GX1_setStart at hF
  refine lv_aload_n hx hb dX1_setStart_0 rfl (lv_at hl 0 rfl) ?_
  refine lv_iconst (v := 1) hx hb dX1_setStart_1 (by decide) ?_
  obtain ⟨a1_, h1, ea1, eh1, g1, hF⟩ := nA_s hF
  have mm1 : hle h1 out.2 := (show Mo h1 _ from mo_sI hle_rf (fun h2 m2 => mo_gC (mo_bnx (moX1_requirePlaces n h2 a0 a1_) m2 (fun r3 u3 m3 => mo_gC (mo_bnx (moX1_requireNumber u3 a0 p2) m3 (fun r4 u4 m4 => mo_gQ (fun x5_ => mo_gQ (fun x6_ => mo_gQ (fun x7_ => mo_aI (fun x8_ => mo_gC (mo_bnd (moX1_changed n u4 a0) m4 (fun r9 u9 m9 => mo_gQ (fun x10_ => mo_gC (mo_bnd (moX4_with u9 x10_ p1 p2) m9 (fun r11 u11 m11 => mo_pV m11 (fun h12 m12 => mo_ret m12)))))))))))))))) _ hF
  replace hc := cst_new hc eh1
  refine h_newI hx hb (hts _ q177) hGr hr hS g1 (bud hc mm1 hmc hms).1 (bud hc mm1 hmc hms).2 dX1_setStart_2 (fun H hr hS => ?_)
  rw [← eh1] at hr
  rw [← ea1]
  refine lv_dup hx hb dX1_setStart_4 rfl ?_
  refine lv_iconst (v := 0) hx hb dX1_setStart_5 (by decide) ?_
  refine lv_iload_n hx hb dX1_setStart_6 rfl (lv_at hl 1 rfl) ?_
  obtain ⟨n2, f2, e2, lo2, g2, hF⟩ := sI_s hF
  obtain ⟨h2, eh2⟩ : ∃ z, z = hPut h1 a1_ (.inl (0, n2, .inl (upd f2 ((0 : Int32)).toNatClampNeg p1))) := ⟨_, rfl⟩
  rw [← eh2] at hF
  refine h_iast hx hb hGr hr hS 0 rfl e2 (x := p1) g2 lo2 dX1_setStart_7 (fun H locs hr hS => ?_)
  rw [← eh2] at hr
  replace hc := cst_put hc eh2
  obtain ⟨fc3, ec3, hF⟩ := gC_s hF
  rcases bnx_s hF with ⟨r3, u3, e3, hF⟩ | ⟨q3, u3, e3, hF⟩
  rotate_left
  · obtain ⟨mc3, ms3, hmc3, hms3⟩ := up_of (moX1_requirePlaces n h2 a0 a1_ _ e3)
    have hcx := cst_call hc hmc3 hms3
    have bx3 := bud_r hcx hF hmc hms
    refine h_xthrv rfl (vx_runV (As := [.ref a1_]) (rest := []) ⟨hx, hb, hml, hown, hts⟩ (mgX1_requirePlaces l hl0 D A h2 n a0 a1_ _ e3 mc3 ms3 hmc3 hms3) (cwV 1 hts (lw_V q1689 q1691 qs38 q101 q1692) rfl rfl rfl (by decide +kernel) ⟨Nat.le_of_ble_eq_true rfl, Nat.le_of_ble_eq_true rfl⟩) (h_preV hGr hr hS ec3 (by decide) (q := (RX1, TX1, 7)) rfl _) rfl rfl hl.1 rfl (lv_room (Nat.le_of_ble_eq_true rfl)) dX1_setStart_8 ⟨bx3.1, bx3.2⟩) hS (fun E9 q9 u9 H locs ce9 e1 e2 e3 hr hS h1 h2 h3 => ?_)
    exact h_xpass hGr htb hlocks hF bx3 e1 e2 e3 hr hS h1 h2 h3
  have mm3 : hle u3 out.2 := (show Mo u3 _ from mo_gC (mo_bnx (moX1_requireNumber u3 a0 p2) hle_rf (fun r4 u4 m4 => mo_gQ (fun x5_ => mo_gQ (fun x6_ => mo_gQ (fun x7_ => mo_aI (fun x8_ => mo_gC (mo_bnd (moX1_changed n u4 a0) m4 (fun r9 u9 m9 => mo_gQ (fun x10_ => mo_gC (mo_bnd (moX4_with u9 x10_ p1 p2) m9 (fun r11 u11 m11 => mo_pV m11 (fun h12 m12 => mo_ret m12))))))))))))) _ hF
  obtain ⟨mc3, ms3, hmc3, hms3⟩ := up_of (moX1_requirePlaces n h2 a0 a1_ _ e3)
  replace hc := cst_call hc hmc3 hms3
  refine h_xretv rfl (vx_runV (As := [.ref a1_]) (rest := []) ⟨hx, hb, hml, hown, hts⟩ (mgX1_requirePlaces l hl0 D A h2 n a0 a1_ _ e3 mc3 ms3 hmc3 hms3) (cwV 1 hts (lw_V q1689 q1691 qs38 q101 q1692) rfl rfl rfl (by decide +kernel) ⟨Nat.le_of_ble_eq_true rfl, Nat.le_of_ble_eq_true rfl⟩) (h_preV hGr hr hS ec3 (by decide) (q := (RX1, TX1, 7)) rfl _) rfl rfl hl.1 rfl (lv_room (Nat.le_of_ble_eq_true rfl)) dX1_setStart_8 ⟨(bud hc mm3 hmc hms).1, (bud hc mm3 hmc hms).2⟩) hS (fun H locs hr hS => ?_)
  refine lv_aload_n hx hb dX1_setStart_11 rfl (lv_at hl 0 rfl) ?_
  refine lv_iload_n hx hb dX1_setStart_12 rfl (lv_at hl 2 rfl) ?_
  obtain ⟨fc4, ec4, hF⟩ := gC_s hF
  rcases bnx_s hF with ⟨r4, u4, e4, hF⟩ | ⟨q4, u4, e4, hF⟩
  rotate_left
  · obtain ⟨mc4, ms4, hmc4, hms4⟩ := up_of (moX1_requireNumber u3 a0 p2 _ e4)
    have hcx := cst_call hc hmc4 hms4
    have bx4 := bud_r hcx hF hmc hms
    refine h_xthrv rfl (vx_runV (As := [.int p2]) (rest := []) ⟨hx, hb, hml, hown, hts⟩ (mgX1_requireNumber l hl0 D A u3 a0 p2 _ e4 mc4 ms4 hmc4 hms4) (cwV 1 hts (lw_V q1725 q1727 qs39 q101 q1728) rfl rfl rfl (by decide +kernel) ⟨Nat.le_of_ble_eq_true rfl, Nat.le_of_ble_eq_true rfl⟩) (h_preV hGr hr hS ec4 (by decide) (q := (RX1, TX1, 7)) rfl _) rfl rfl hl.1 rfl (lv_room (Nat.le_of_ble_eq_true rfl)) dX1_setStart_13 ⟨bx4.1, bx4.2⟩) hS (fun E9 q9 u9 H locs ce9 e1 e2 e3 hr hS h1 h2 h3 => ?_)
    exact h_xpass hGr htb hlocks hF bx4 e1 e2 e3 hr hS h1 h2 h3
  have mm4 : hle u4 out.2 := (show Mo u4 _ from mo_gQ (fun x5_ => mo_gQ (fun x6_ => mo_gQ (fun x7_ => mo_aI (fun x8_ => mo_gC (mo_bnd (moX1_changed n u4 a0) hle_rf (fun r9 u9 m9 => mo_gQ (fun x10_ => mo_gC (mo_bnd (moX4_with u9 x10_ p1 p2) m9 (fun r11 u11 m11 => mo_pV m11 (fun h12 m12 => mo_ret m12))))))))))) _ hF
  obtain ⟨mc4, ms4, hmc4, hms4⟩ := up_of (moX1_requireNumber u3 a0 p2 _ e4)
  replace hc := cst_call hc hmc4 hms4
  refine h_xretv rfl (vx_runV (As := [.int p2]) (rest := []) ⟨hx, hb, hml, hown, hts⟩ (mgX1_requireNumber l hl0 D A u3 a0 p2 _ e4 mc4 ms4 hmc4 hms4) (cwV 1 hts (lw_V q1725 q1727 qs39 q101 q1728) rfl rfl rfl (by decide +kernel) ⟨Nat.le_of_ble_eq_true rfl, Nat.le_of_ble_eq_true rfl⟩) (h_preV hGr hr hS ec4 (by decide) (q := (RX1, TX1, 7)) rfl _) rfl rfl hl.1 rfl (lv_room (Nat.le_of_ble_eq_true rfl)) dX1_setStart_13 ⟨(bud hc mm4 hmc hms).1, (bud hc mm4 hmc hms).2⟩) hS (fun H locs hr hS => ?_)
  refine lv_aload_n hx hb dX1_setStart_16 rfl (lv_at hl 0 rfl) ?_
  obtain ⟨fs5, x5_, e5, f5, hF⟩ := gQ_s hF
  refine h_get (C := RX1) (T := TX1) (N := 7) hx hb hts in_X1 hown hGr hr e5 (by decide) rfl 0 (by decide) (hts _ q633) (fun _ h9 => h9) f5 dX1_setStart_17 ?_
  obtain ⟨fs6, x6_, e6, f6, hF⟩ := gQ_s hF
  refine h_getN (C := RX2) (T := TX2) (N := 11) hx hb hts in_X2 hown hGr hr e6 (by decide) rfl 3 (by decide) (va_Nw.use rfl (hGr.nw q572 rfl)) (fun _ h9 => h9) f6 dX1_setStart_20 ?_
  obtain ⟨fs7, x7_, e7, f7, hF⟩ := gQ_s hF
  refine h_getN (C := RX4) (T := TX4) (N := 1) hx hb hts in_X4 hown hGr hr e7 (by decide) rfl 0 (by decide) (va_Nw.use rfl (hGr.nw q557 rfl)) (fun _ h9 => h9) f7 dX1_setStart_23 ?_
  refine lv_iload_n hx hb dX1_setStart_26 rfl (lv_at hl 1 rfl) ?_
  obtain ⟨n8, f8, e8, g8, hF⟩ := aI_s hF
  obtain ⟨x8_, ex8⟩ : ∃ z, z = f8 (p1).toNatClampNeg := ⟨_, rfl⟩
  rw [← ex8] at hF
  refine h_iald hx hb hGr hr 0 rfl e8 g8 dX1_setStart_27 ?_
  rw [← ex8]
  refine lv_istore_n (lv' := [(3, .int x8_), (0, .ref a0), (1, .int p1), (2, .int p2)]) hx hb dX1_setStart_28 rfl hl (by decide) rfl (fun ls hl => ?_)
  refine lv_aload_n hx hb dX1_setStart_29 rfl (lv_at hl 1 rfl) ?_
  obtain ⟨fc9, ec9, hF⟩ := gC_s hF
  obtain ⟨r9, u9, e9, hF⟩ := bnd_s hF
  have mm9 : hle u9 out.2 := (show Mo u9 _ from mo_gQ (fun x10_ => mo_gC (mo_bnd (moX4_with u9 x10_ p1 p2) hle_rf (fun r11 u11 m11 => mo_pV m11 (fun h12 m12 => mo_ret m12))))) _ hF
  obtain ⟨mc9, ms9, hmc9, hms9⟩ := up_of (moX1_changed n u4 a0 _ e9)
  replace hc := cst_call hc hmc9 hms9
  refine h_callr (va_runV (As := []) (rest := []) ⟨hx, hb, hml, hown, hts⟩ (mgX1_changed l D A u4 n a0 _ e9 mc9 ms9 hmc9 hms9) (cwV 0 hts (lw_V q666 q668 qs2 q101 q669) rfl rfl rfl (by decide +kernel) ⟨Nat.le_of_ble_eq_true rfl, Nat.le_of_ble_eq_true rfl⟩) (h_preV hGr hr hS ec9 (by decide) (q := (RX1, TX1, 7)) rfl _) rfl rfl hl.1 rfl (lv_room (Nat.le_of_ble_eq_true rfl)) dX1_setStart_30 ⟨(bud hc mm9 hmc hms).1, (bud hc mm9 hmc hms).2⟩) hS (fun rr uu H locs hw hr hS => ?_)
  obtain rfl : u9 = uu := (congrArg Prod.snd hw).symm
  obtain rfl : r9 = rr := (congrArg Prod.fst hw).symm
  refine lv_astore (lv' := [(4, .ref r9), (3, .int x8_), (0, .ref a0), (1, .int p1), (2, .int p2)]) hx hb dX1_setStart_33 hl (by decide) rfl (fun ls hl => ?_)
  refine lv_aload hx hb dX1_setStart_35 (lv_at hl 0 rfl) ?_
  refine lv_aload hx hb dX1_setStart_37 (lv_at hl 0 rfl) ?_
  obtain ⟨fs10, x10_, e10, f10, hF⟩ := gQ_s hF
  refine h_getN (C := RX2) (T := TX2) (N := 11) hx hb hts in_X2 hown hGr hr e10 (by decide) rfl 3 (by decide) (va_Nw.use rfl (hGr.nw q572 rfl)) (fun _ h9 => h9) f10 dX1_setStart_39 ?_
  refine lv_iload_n hx hb dX1_setStart_42 rfl (lv_at hl 3 rfl) ?_
  refine lv_iload_n hx hb dX1_setStart_43 rfl (lv_at hl 4 rfl) ?_
  obtain ⟨fc11, ec11, hF⟩ := gC_s hF
  obtain ⟨r11, u11, e11, hF⟩ := bnd_s hF
  have mm11 : hle u11 out.2 := (show Mo u11 _ from mo_pV hle_rf (fun h12 m12 => mo_ret m12)) _ hF
  obtain ⟨mc11, ms11, hmc11, hms11⟩ := up_of (moX4_with u9 x10_ p1 p2 _ e11)
  replace hc := cst_call hc hmc11 hms11
  refine h_callr (va_runV (As := [.int p1, .int p2]) (rest := [.ref r9]) ⟨hx, hb, hml, hown, hts⟩ (mgX4_with l D A u9 x10_ p1 p2 _ e11 mc11 ms11 hmc11 hms11) (cwV 2 hts (lw_V q1742 q1624 q1625 q123 q1626) rfl rfl rfl (by decide +kernel) ⟨Nat.le_of_ble_eq_true rfl, Nat.le_of_ble_eq_true rfl⟩) (h_preV hGr hr hS ec11 (by decide) (q := (RX4, TX4, 1)) rfl _) rfl rfl hl.1 rfl (lv_room (Nat.le_of_ble_eq_true rfl)) dX1_setStart_44 ⟨(bud hc mm11 hmc hms).1, (bud hc mm11 hmc hms).2⟩) hS (fun rr uu H locs hw hr hS => ?_)
  obtain rfl : u11 = uu := (congrArg Prod.snd hw).symm
  obtain rfl : r11 = rr := (congrArg Prod.fst hw).symm
  obtain ⟨fs12, e12, k12, lo12, hF⟩ := pV_s hF
  obtain ⟨h12, eh12⟩ : ∃ z, z = hPut u11 r9 (.inr (2, fs12.set 3 (.ref r11))) := ⟨_, rfl⟩
  rw [← eh12] at hF
  refine h_putN (C := RX2) (T := TX2) (N := 11) hx hb hts in_X2 tyX2 tyX2_ok nmX2 hown hGr hr hS e12 (by decide) rfl 3 (by decide) (va_Nw.use rfl (hGr.nw q572 rfl)) (fun _ h9 => h9) rfl (tyX2_ok 3 (by decide)) rfl rfl k12 lo12 dX1_setStart_47 (fun H locs hr hS => ?_)
  rw [← eh12] at hr
  replace hc := cst_put hc eh12
  refine lv_iload_n hx hb dX1_setStart_50 rfl (lv_at hl 1 rfl) ?_
  have bz := bud_r hc hF hmc hms
  refine vx_ret ?_
  refine W.widen (k := mc) (n := ms) bz.1 bz.2 ?_
  exact W.iret (v := x8_) hx hb hret (fun t ht hWm => ⟨⟨x8_, h12, rfl, Option.some.inj hF, h_end hGr hr hS ht hWm⟩, hS.F ht⟩) hS.2.2 dX1_setStart_51

def GX1_setLimit (n : Nat) (h : Hp) (a0 : Nat) (p1 : Int32) : Option ((Int32 ⊕ Xq) × Hp) := bnd (GX1_inRange h ((p1).toInt64) (1 : Int64) (8 : Int64)) (fun r1 u1 => bnx (GX1_requireArgument u1 r1) (fun r2 u2 => gQ u2 a0 1 0 (fun x3_ => gI u2 x3_ 2 4 (fun x4_ => gC u2 a0 1 (bnd (GX1_changed n u2 a0) (fun r5 u5 => pV u5 r5 2 4 (.int p1) (fun h6 => some (.inl x4_, h6))))))))
theorem moX1_setLimit (n : Nat) (h : Hp) (a0 : Nat) (p1 : Int32) : Mo h (GX1_setLimit n h a0 p1) := by
  unfold GX1_setLimit
  exact mo_bnd (moX1_inRange h ((p1).toInt64) (1 : Int64) (8 : Int64)) hle_rf (fun r1 u1 m1 => mo_bnx (moX1_requireArgument u1 r1) m1 (fun r2 u2 m2 => mo_gQ (fun x3_ => mo_gI (fun x4_ => mo_gC (mo_bnd (moX1_changed n u2 a0) m2 (fun r5 u5 m5 => mo_pV m5 (fun h6 m6 => mo_ret m6)))))))
set_option maxHeartbeats 4000000 in
set_option maxRecDepth 100000 in
theorem mgX1_setLimit (l : Launch) (hl0 : l.stackTraces = false) (D : HD) (A : Nat → Prop) (h : Hp) (n : Nat) (a0 : Nat) (p1 : Int32) (out : (Int32 ⊕ Xq) × Hp) (hF : GX1_setLimit n h a0 p1 = some out) (mc ms : Nat) (hmc : hCc out.2 = hCc h + mc) (hms : hSl out.2 = hSl h + ms) : vx_Met l yX1_setLimit (ws_ yX1_setLimit cX1_setLimit 3 (some .int)) ({ frames := 8, cells := mc, slots := ms, locals := 234 }) (va_Pc [.ref a0, .int p1] (hW D A h)) (va_Qi (fun r u => ((.inl r : Int32 ⊕ Xq), u) = out) (hW D A) A) (xC D A out) mc ms A := by
  refine vx_ofW (cc := cX1_setLimit) (maxL := 3) (ret := (some .int)) (by decide +kernel) rfl ?_
  intro p e s m args below meth c s₁ B hml htb hv
  obtain ⟨rfl, hr, hGr⟩ := hv
  have hx := B.exec
  have hb := B.bytes
  have hret := B.returns
  have hts := atoms_spec (ws := (ws_ yX1_setLimit cX1_setLimit 3 (some .int))) B.pre
  have hts : ∀ w ∈ lw_all, w.before _ s = true := fun w h => hts w (List.mem_cons_of_mem _ h)
  have hown : s.vm.findClass RX1 = some m.cls := findClass_of_methodNamed B.named
  have hlocks := B.notSynchronized
  have hS : va_S A s.heap s.heap [] := va_S.rf
  have hc : cst h 0 0 h := cst_0
  have hl := lv_entry ([.ref a0, .int p1]) (n := 3) (Nat.le_of_ble_eq_true rfl)
  rw [lg_entry_eq]
  generalize (lg_sl ([.ref a0, .int p1]) ++ List.replicate (3 - (lg_sl ([.ref a0, .int p1])).length) Slot.unset).toArray = ls at hl ⊢
  have hl : lv_has ls 3 [(0, .ref a0), (1, .int p1)] := hl
  unfold GX1_setLimit at hF
  refine lv_iload_n hx hb dX1_setLimit_0 rfl (lv_at hl 1 rfl) ?_
  refine lv_i2l (v := (p1).toInt64) hx hb dX1_setLimit_1 rfl ?_
  refine lv_lconst (v := 1) hx hb dX1_setLimit_2 (by decide) ?_
  refine lv_ldc2 hx hb hown (hts _ q1750) dX1_setLimit_3 ?_
  obtain ⟨r1, u1, e1, hF⟩ := bnd_s hF
  have mm1 : hle u1 out.2 := (show Mo u1 _ from mo_bnx (moX1_requireArgument u1 r1) hle_rf (fun r2 u2 m2 => mo_gQ (fun x3_ => mo_gI (fun x4_ => mo_gC (mo_bnd (moX1_changed n u2 a0) m2 (fun r5 u5 m5 => mo_pV m5 (fun h6 m6 => mo_ret m6))))))) _ hF
  obtain ⟨mc1, ms1, hmc1, hms1⟩ := up_of (moX1_inRange h ((p1).toInt64) (1 : Int64) (8 : Int64) _ e1)
  replace hc := cst_call hc hmc1 hms1
  refine h_calli (va_runS (As := [.long ((p1).toInt64), .long (1 : Int64), .long (8 : Int64)]) (rest := []) ⟨hx, hb, hml, hown, hts⟩ (mgX1_inRange l D A h ((p1).toInt64) (1 : Int64) (8 : Int64) _ e1 mc1 ms1 hmc1 hms1) (va_cwS 3 hts (lw_S q1420 q1421 q101 q1422) rfl rfl rfl (by decide +kernel) ⟨Nat.le_of_ble_eq_true rfl, Nat.le_of_ble_eq_true rfl⟩) (h_preS hGr hr hS _) rfl rfl hl.1 rfl (lv_room (Nat.le_of_ble_eq_true rfl)) dX1_setLimit_6 ⟨(bud hc mm1 hmc hms).1, (bud hc mm1 hmc hms).2⟩) hS (fun rr uu H locs hw hr hS => ?_)
  obtain rfl : u1 = uu := (congrArg Prod.snd hw).symm
  obtain rfl : r1 = rr := (congrArg Prod.fst hw).symm
  rcases bnx_s hF with ⟨r2, u2, e2, hF⟩ | ⟨q2, u2, e2, hF⟩
  rotate_left
  · obtain ⟨mc2, ms2, hmc2, hms2⟩ := up_of (moX1_requireArgument u1 r1 _ e2)
    have hcx := cst_call hc hmc2 hms2
    have bx2 := bud_r hcx hF hmc hms
    refine h_xthrv rfl (vx_runS (As := [.int r1]) (rest := []) ⟨hx, hb, hml, hown, hts⟩ (mgX1_requireArgument l hl0 D A u1 r1 _ e2 mc2 ms2 hmc2 hms2) (va_cwS 1 hts (lw_S q1423 q1424 q101 q1425) rfl rfl rfl (by decide +kernel) ⟨Nat.le_of_ble_eq_true rfl, Nat.le_of_ble_eq_true rfl⟩) (h_preS hGr hr hS _) rfl rfl hl.1 rfl (lv_room (Nat.le_of_ble_eq_true rfl)) dX1_setLimit_9 ⟨bx2.1, bx2.2⟩) hS (fun E9 q9 u9 H locs ce9 e1 e2 e3 hr hS h1 h2 h3 => ?_)
    exact h_xpass hGr htb hlocks hF bx2 e1 e2 e3 hr hS h1 h2 h3
  have mm2 : hle u2 out.2 := (show Mo u2 _ from mo_gQ (fun x3_ => mo_gI (fun x4_ => mo_gC (mo_bnd (moX1_changed n u2 a0) hle_rf (fun r5 u5 m5 => mo_pV m5 (fun h6 m6 => mo_ret m6)))))) _ hF
  obtain ⟨mc2, ms2, hmc2, hms2⟩ := up_of (moX1_requireArgument u1 r1 _ e2)
  replace hc := cst_call hc hmc2 hms2
  refine h_xretv rfl (vx_runS (As := [.int r1]) (rest := []) ⟨hx, hb, hml, hown, hts⟩ (mgX1_requireArgument l hl0 D A u1 r1 _ e2 mc2 ms2 hmc2 hms2) (va_cwS 1 hts (lw_S q1423 q1424 q101 q1425) rfl rfl rfl (by decide +kernel) ⟨Nat.le_of_ble_eq_true rfl, Nat.le_of_ble_eq_true rfl⟩) (h_preS hGr hr hS _) rfl rfl hl.1 rfl (lv_room (Nat.le_of_ble_eq_true rfl)) dX1_setLimit_9 ⟨(bud hc mm2 hmc hms).1, (bud hc mm2 hmc hms).2⟩) hS (fun H locs hr hS => ?_)
  refine lv_aload_n hx hb dX1_setLimit_12 rfl (lv_at hl 0 rfl) ?_
  obtain ⟨fs3, x3_, e3, f3, hF⟩ := gQ_s hF
  refine h_get (C := RX1) (T := TX1) (N := 7) hx hb hts in_X1 hown hGr hr e3 (by decide) rfl 0 (by decide) (hts _ q633) (fun _ h9 => h9) f3 dX1_setLimit_13 ?_
  obtain ⟨fs4, x4_, e4, f4, hF⟩ := gI_s hF
  refine h_getN (C := RX2) (T := TX2) (N := 11) hx hb hts in_X2 hown hGr hr e4 (by decide) rfl 4 (by decide) (va_Nw.use rfl (hGr.nw q575 rfl)) (fun _ h9 => h9) f4 dX1_setLimit_16 ?_
  refine lv_istore_n (lv' := [(2, .int x4_), (0, .ref a0), (1, .int p1)]) hx hb dX1_setLimit_19 rfl hl (by decide) rfl (fun ls hl => ?_)
  refine lv_aload_n hx hb dX1_setLimit_20 rfl (lv_at hl 1 rfl) ?_
  obtain ⟨fc5, ec5, hF⟩ := gC_s hF
  obtain ⟨r5, u5, e5, hF⟩ := bnd_s hF
  have mm5 : hle u5 out.2 := (show Mo u5 _ from mo_pV hle_rf (fun h6 m6 => mo_ret m6)) _ hF
  obtain ⟨mc5, ms5, hmc5, hms5⟩ := up_of (moX1_changed n u2 a0 _ e5)
  replace hc := cst_call hc hmc5 hms5
  refine h_callr (va_runV (As := []) (rest := []) ⟨hx, hb, hml, hown, hts⟩ (mgX1_changed l D A u2 n a0 _ e5 mc5 ms5 hmc5 hms5) (cwV 0 hts (lw_V q666 q668 qs2 q101 q669) rfl rfl rfl (by decide +kernel) ⟨Nat.le_of_ble_eq_true rfl, Nat.le_of_ble_eq_true rfl⟩) (h_preV hGr hr hS ec5 (by decide) (q := (RX1, TX1, 7)) rfl _) rfl rfl hl.1 rfl (lv_room (Nat.le_of_ble_eq_true rfl)) dX1_setLimit_21 ⟨(bud hc mm5 hmc hms).1, (bud hc mm5 hmc hms).2⟩) hS (fun rr uu H locs hw hr hS => ?_)
  obtain rfl : u5 = uu := (congrArg Prod.snd hw).symm
  obtain rfl : r5 = rr := (congrArg Prod.fst hw).symm
  refine lv_iload_n hx hb dX1_setLimit_24 rfl (lv_at hl 2 rfl) ?_
  obtain ⟨fs6, e6, k6, lo6, hF⟩ := pV_s hF
  obtain ⟨h6, eh6⟩ : ∃ z, z = hPut u5 r5 (.inr (2, fs6.set 4 (.int p1))) := ⟨_, rfl⟩
  rw [← eh6] at hF
  refine h_putN (C := RX2) (T := TX2) (N := 11) hx hb hts in_X2 tyX2 tyX2_ok nmX2 hown hGr hr hS e6 (by decide) rfl 4 (by decide) (va_Nw.use rfl (hGr.nw q575 rfl)) (fun _ h9 => h9) rfl (tyX2_ok 4 (by decide)) rfl rfl k6 lo6 dX1_setLimit_25 (fun H locs hr hS => ?_)
  rw [← eh6] at hr
  replace hc := cst_put hc eh6
  refine lv_iload_n hx hb dX1_setLimit_28 rfl (lv_at hl 0 rfl) ?_
  have bz := bud_r hc hF hmc hms
  refine vx_ret ?_
  refine W.widen (k := mc) (n := ms) bz.1 bz.2 ?_
  exact W.iret (v := x4_) hx hb hret (fun t ht hWm => ⟨⟨x4_, h6, rfl, Option.some.inj hF, h_end hGr hr hS ht hWm⟩, hS.F ht⟩) hS.2.2 dX1_setLimit_29

def GX1_setRestarts (n : Nat) (h : Hp) (a0 : Nat) (p1 : Int32) : Option ((Int32 ⊕ Xq) × Hp) := bnd (GX1_inRange h ((p1).toInt64) (0 : Int64) (8 : Int64)) (fun r1 u1 => bnx (GX1_requireArgument u1 r1) (fun r2 u2 => gQ u2 a0 1 0 (fun x3_ => gI u2 x3_ 2 5 (fun x4_ => gC u2 a0 1 (bnd (GX1_changed n u2 a0) (fun r5 u5 => pV u5 r5 2 5 (.int p1) (fun h6 => some (.inl x4_, h6))))))))
theorem moX1_setRestarts (n : Nat) (h : Hp) (a0 : Nat) (p1 : Int32) : Mo h (GX1_setRestarts n h a0 p1) := by
  unfold GX1_setRestarts
  exact mo_bnd (moX1_inRange h ((p1).toInt64) (0 : Int64) (8 : Int64)) hle_rf (fun r1 u1 m1 => mo_bnx (moX1_requireArgument u1 r1) m1 (fun r2 u2 m2 => mo_gQ (fun x3_ => mo_gI (fun x4_ => mo_gC (mo_bnd (moX1_changed n u2 a0) m2 (fun r5 u5 m5 => mo_pV m5 (fun h6 m6 => mo_ret m6)))))))
set_option maxHeartbeats 4000000 in
set_option maxRecDepth 100000 in
theorem mgX1_setRestarts (l : Launch) (hl0 : l.stackTraces = false) (D : HD) (A : Nat → Prop) (h : Hp) (n : Nat) (a0 : Nat) (p1 : Int32) (out : (Int32 ⊕ Xq) × Hp) (hF : GX1_setRestarts n h a0 p1 = some out) (mc ms : Nat) (hmc : hCc out.2 = hCc h + mc) (hms : hSl out.2 = hSl h + ms) : vx_Met l yX1_setRestarts (ws_ yX1_setRestarts cX1_setRestarts 3 (some .int)) ({ frames := 8, cells := mc, slots := ms, locals := 234 }) (va_Pc [.ref a0, .int p1] (hW D A h)) (va_Qi (fun r u => ((.inl r : Int32 ⊕ Xq), u) = out) (hW D A) A) (xC D A out) mc ms A := by
  refine vx_ofW (cc := cX1_setRestarts) (maxL := 3) (ret := (some .int)) (by decide +kernel) rfl ?_
  intro p e s m args below meth c s₁ B hml htb hv
  obtain ⟨rfl, hr, hGr⟩ := hv
  have hx := B.exec
  have hb := B.bytes
  have hret := B.returns
  have hts := atoms_spec (ws := (ws_ yX1_setRestarts cX1_setRestarts 3 (some .int))) B.pre
  have hts : ∀ w ∈ lw_all, w.before _ s = true := fun w h => hts w (List.mem_cons_of_mem _ h)
  have hown : s.vm.findClass RX1 = some m.cls := findClass_of_methodNamed B.named
  have hlocks := B.notSynchronized
  have hS : va_S A s.heap s.heap [] := va_S.rf
  have hc : cst h 0 0 h := cst_0
  have hl := lv_entry ([.ref a0, .int p1]) (n := 3) (Nat.le_of_ble_eq_true rfl)
  rw [lg_entry_eq]
  generalize (lg_sl ([.ref a0, .int p1]) ++ List.replicate (3 - (lg_sl ([.ref a0, .int p1])).length) Slot.unset).toArray = ls at hl ⊢
  have hl : lv_has ls 3 [(0, .ref a0), (1, .int p1)] := hl
  unfold GX1_setRestarts at hF
  refine lv_iload_n hx hb dX1_setRestarts_0 rfl (lv_at hl 1 rfl) ?_
  refine lv_i2l (v := (p1).toInt64) hx hb dX1_setRestarts_1 rfl ?_
  refine lv_lconst (v := 0) hx hb dX1_setRestarts_2 (by decide) ?_
  refine lv_ldc2 hx hb hown (hts _ q1750) dX1_setRestarts_3 ?_
  obtain ⟨r1, u1, e1, hF⟩ := bnd_s hF
  have mm1 : hle u1 out.2 := (show Mo u1 _ from mo_bnx (moX1_requireArgument u1 r1) hle_rf (fun r2 u2 m2 => mo_gQ (fun x3_ => mo_gI (fun x4_ => mo_gC (mo_bnd (moX1_changed n u2 a0) m2 (fun r5 u5 m5 => mo_pV m5 (fun h6 m6 => mo_ret m6))))))) _ hF
  obtain ⟨mc1, ms1, hmc1, hms1⟩ := up_of (moX1_inRange h ((p1).toInt64) (0 : Int64) (8 : Int64) _ e1)
  replace hc := cst_call hc hmc1 hms1
  refine h_calli (va_runS (As := [.long ((p1).toInt64), .long (0 : Int64), .long (8 : Int64)]) (rest := []) ⟨hx, hb, hml, hown, hts⟩ (mgX1_inRange l D A h ((p1).toInt64) (0 : Int64) (8 : Int64) _ e1 mc1 ms1 hmc1 hms1) (va_cwS 3 hts (lw_S q1420 q1421 q101 q1422) rfl rfl rfl (by decide +kernel) ⟨Nat.le_of_ble_eq_true rfl, Nat.le_of_ble_eq_true rfl⟩) (h_preS hGr hr hS _) rfl rfl hl.1 rfl (lv_room (Nat.le_of_ble_eq_true rfl)) dX1_setRestarts_6 ⟨(bud hc mm1 hmc hms).1, (bud hc mm1 hmc hms).2⟩) hS (fun rr uu H locs hw hr hS => ?_)
  obtain rfl : u1 = uu := (congrArg Prod.snd hw).symm
  obtain rfl : r1 = rr := (congrArg Prod.fst hw).symm
  rcases bnx_s hF with ⟨r2, u2, e2, hF⟩ | ⟨q2, u2, e2, hF⟩
  rotate_left
  · obtain ⟨mc2, ms2, hmc2, hms2⟩ := up_of (moX1_requireArgument u1 r1 _ e2)
    have hcx := cst_call hc hmc2 hms2
    have bx2 := bud_r hcx hF hmc hms
    refine h_xthrv rfl (vx_runS (As := [.int r1]) (rest := []) ⟨hx, hb, hml, hown, hts⟩ (mgX1_requireArgument l hl0 D A u1 r1 _ e2 mc2 ms2 hmc2 hms2) (va_cwS 1 hts (lw_S q1423 q1424 q101 q1425) rfl rfl rfl (by decide +kernel) ⟨Nat.le_of_ble_eq_true rfl, Nat.le_of_ble_eq_true rfl⟩) (h_preS hGr hr hS _) rfl rfl hl.1 rfl (lv_room (Nat.le_of_ble_eq_true rfl)) dX1_setRestarts_9 ⟨bx2.1, bx2.2⟩) hS (fun E9 q9 u9 H locs ce9 e1 e2 e3 hr hS h1 h2 h3 => ?_)
    exact h_xpass hGr htb hlocks hF bx2 e1 e2 e3 hr hS h1 h2 h3
  have mm2 : hle u2 out.2 := (show Mo u2 _ from mo_gQ (fun x3_ => mo_gI (fun x4_ => mo_gC (mo_bnd (moX1_changed n u2 a0) hle_rf (fun r5 u5 m5 => mo_pV m5 (fun h6 m6 => mo_ret m6)))))) _ hF
  obtain ⟨mc2, ms2, hmc2, hms2⟩ := up_of (moX1_requireArgument u1 r1 _ e2)
  replace hc := cst_call hc hmc2 hms2
  refine h_xretv rfl (vx_runS (As := [.int r1]) (rest := []) ⟨hx, hb, hml, hown, hts⟩ (mgX1_requireArgument l hl0 D A u1 r1 _ e2 mc2 ms2 hmc2 hms2) (va_cwS 1 hts (lw_S q1423 q1424 q101 q1425) rfl rfl rfl (by decide +kernel) ⟨Nat.le_of_ble_eq_true rfl, Nat.le_of_ble_eq_true rfl⟩) (h_preS hGr hr hS _) rfl rfl hl.1 rfl (lv_room (Nat.le_of_ble_eq_true rfl)) dX1_setRestarts_9 ⟨(bud hc mm2 hmc hms).1, (bud hc mm2 hmc hms).2⟩) hS (fun H locs hr hS => ?_)
  refine lv_aload_n hx hb dX1_setRestarts_12 rfl (lv_at hl 0 rfl) ?_
  obtain ⟨fs3, x3_, e3, f3, hF⟩ := gQ_s hF
  refine h_get (C := RX1) (T := TX1) (N := 7) hx hb hts in_X1 hown hGr hr e3 (by decide) rfl 0 (by decide) (hts _ q633) (fun _ h9 => h9) f3 dX1_setRestarts_13 ?_
  obtain ⟨fs4, x4_, e4, f4, hF⟩ := gI_s hF
  refine h_getN (C := RX2) (T := TX2) (N := 11) hx hb hts in_X2 hown hGr hr e4 (by decide) rfl 5 (by decide) (va_Nw.use rfl (hGr.nw q578 rfl)) (fun _ h9 => h9) f4 dX1_setRestarts_16 ?_
  refine lv_istore_n (lv' := [(2, .int x4_), (0, .ref a0), (1, .int p1)]) hx hb dX1_setRestarts_19 rfl hl (by decide) rfl (fun ls hl => ?_)
  refine lv_aload_n hx hb dX1_setRestarts_20 rfl (lv_at hl 1 rfl) ?_
  obtain ⟨fc5, ec5, hF⟩ := gC_s hF
  obtain ⟨r5, u5, e5, hF⟩ := bnd_s hF
  have mm5 : hle u5 out.2 := (show Mo u5 _ from mo_pV hle_rf (fun h6 m6 => mo_ret m6)) _ hF
  obtain ⟨mc5, ms5, hmc5, hms5⟩ := up_of (moX1_changed n u2 a0 _ e5)
  replace hc := cst_call hc hmc5 hms5
  refine h_callr (va_runV (As := []) (rest := []) ⟨hx, hb, hml, hown, hts⟩ (mgX1_changed l D A u2 n a0 _ e5 mc5 ms5 hmc5 hms5) (cwV 0 hts (lw_V q666 q668 qs2 q101 q669) rfl rfl rfl (by decide +kernel) ⟨Nat.le_of_ble_eq_true rfl, Nat.le_of_ble_eq_true rfl⟩) (h_preV hGr hr hS ec5 (by decide) (q := (RX1, TX1, 7)) rfl _) rfl rfl hl.1 rfl (lv_room (Nat.le_of_ble_eq_true rfl)) dX1_setRestarts_21 ⟨(bud hc mm5 hmc hms).1, (bud hc mm5 hmc hms).2⟩) hS (fun rr uu H locs hw hr hS => ?_)
  obtain rfl : u5 = uu := (congrArg Prod.snd hw).symm
  obtain rfl : r5 = rr := (congrArg Prod.fst hw).symm
  refine lv_iload_n hx hb dX1_setRestarts_24 rfl (lv_at hl 2 rfl) ?_
  obtain ⟨fs6, e6, k6, lo6, hF⟩ := pV_s hF
  obtain ⟨h6, eh6⟩ : ∃ z, z = hPut u5 r5 (.inr (2, fs6.set 5 (.int p1))) := ⟨_, rfl⟩
  rw [← eh6] at hF
  refine h_putN (C := RX2) (T := TX2) (N := 11) hx hb hts in_X2 tyX2 tyX2_ok nmX2 hown hGr hr hS e6 (by decide) rfl 5 (by decide) (va_Nw.use rfl (hGr.nw q578 rfl)) (fun _ h9 => h9) rfl (tyX2_ok 5 (by decide)) rfl rfl k6 lo6 dX1_setRestarts_25 (fun H locs hr hS => ?_)
  rw [← eh6] at hr
  replace hc := cst_put hc eh6
  refine lv_iload_n hx hb dX1_setRestarts_28 rfl (lv_at hl 0 rfl) ?_
  have bz := bud_r hc hF hmc hms
  refine vx_ret ?_
  refine W.widen (k := mc) (n := ms) bz.1 bz.2 ?_
  exact W.iret (v := x4_) hx hb hret (fun t ht hWm => ⟨⟨x4_, h6, rfl, Option.some.inj hF, h_end hGr hr hS ht hWm⟩, hS.F ht⟩) hS.2.2 dX1_setRestarts_29

def GX1_setFull (n : Nat) (h : Hp) (a0 : Nat) (p1 : Int32) : Option (Int32 × Hp) := gQ h a0 1 0 (fun x1_ => gI h x1_ 2 6 (fun x2_ => gC h a0 1 (bnd (GX1_changed n h a0) (fun r3 u3 => gd (zbB p1) (pV u3 r3 2 6 (.int p1) (fun h4 => gd (zbB x2_) (some (x2_, h4))))))))
theorem moX1_setFull (n : Nat) (h : Hp) (a0 : Nat) (p1 : Int32) : Mo h (GX1_setFull n h a0 p1) := by
  unfold GX1_setFull
  exact mo_gQ (fun x1_ => mo_gI (fun x2_ => mo_gC (mo_bnd (moX1_changed n h a0) hle_rf (fun r3 u3 m3 => mo_gd (mo_pV m3 (fun h4 m4 => mo_gd (mo_ret m4)))))))
set_option maxHeartbeats 4000000 in
set_option maxRecDepth 100000 in
theorem mgX1_setFull (l : Launch) (D : HD) (A : Nat → Prop) (h : Hp) (n : Nat) (a0 : Nat) (p1 : Int32) (out : Int32 × Hp) (hF : GX1_setFull n h a0 p1 = some out) (mc ms : Nat) (hmc : hCc out.2 = hCc h + mc) (hms : hSl out.2 = hSl h + ms) : Met l yX1_setFull (ws_ yX1_setFull cX1_setFull 3 (some .boolean)) ({ frames := 8, cells := mc, slots := ms, locals := 234 }) (va_Pc [.ref a0, .int p1] (hW D A h)) (va_Qi (fun r u => (r, u) = out) (hW D A) A) mc ms A := by
  refine Met.ofW (cc := cX1_setFull) (maxL := 3) (ret := (some .boolean)) (by decide +kernel) rfl ?_
  intro p e s m args below meth c s₁ B hml hv
  obtain ⟨rfl, hr, hGr⟩ := hv
  have hx := B.exec
  have hb := B.bytes
  have hret := B.returns
  have hts := atoms_spec (ws := (ws_ yX1_setFull cX1_setFull 3 (some .boolean))) B.pre
  have hts : ∀ w ∈ lw_all, w.before _ s = true := fun w h => hts w (List.mem_cons_of_mem _ h)
  have hown : s.vm.findClass RX1 = some m.cls := findClass_of_methodNamed B.named
  have hlocks := B.notSynchronized
  have hS : va_S A s.heap s.heap [] := va_S.rf
  have hc : cst h 0 0 h := cst_0
  have hl := lv_entry ([.ref a0, .int p1]) (n := 3) (Nat.le_of_ble_eq_true rfl)
  rw [lg_entry_eq]
  generalize (lg_sl ([.ref a0, .int p1]) ++ List.replicate (3 - (lg_sl ([.ref a0, .int p1])).length) Slot.unset).toArray = ls at hl ⊢
  have hl : lv_has ls 3 [(0, .ref a0), (1, .int p1)] := hl
  unfold GX1_setFull at hF
  refine lv_aload_n hx hb dX1_setFull_0 rfl (lv_at hl 0 rfl) ?_
  obtain ⟨fs1, x1_, e1, f1, hF⟩ := gQ_s hF
  refine h_get (C := RX1) (T := TX1) (N := 7) hx hb hts in_X1 hown hGr hr e1 (by decide) rfl 0 (by decide) (hts _ q633) (fun _ h9 => h9) f1 dX1_setFull_1 ?_
  obtain ⟨fs2, x2_, e2, f2, hF⟩ := gI_s hF
  refine h_getN (C := RX2) (T := TX2) (N := 11) hx hb hts in_X2 hown hGr hr e2 (by decide) rfl 6 (by decide) (va_Nw.use rfl (hGr.nw q581 rfl)) (fun _ h9 => h9) f2 dX1_setFull_4 ?_
  refine lv_istore_n (lv' := [(2, .int x2_), (0, .ref a0), (1, .int p1)]) hx hb dX1_setFull_7 rfl hl (by decide) rfl (fun ls hl => ?_)
  refine lv_aload_n hx hb dX1_setFull_8 rfl (lv_at hl 1 rfl) ?_
  obtain ⟨fc3, ec3, hF⟩ := gC_s hF
  obtain ⟨r3, u3, e3, hF⟩ := bnd_s hF
  have mm3 : hle u3 out.2 := (show Mo u3 _ from mo_gd (mo_pV hle_rf (fun h4 m4 => mo_gd (mo_ret m4)))) _ hF
  obtain ⟨mc3, ms3, hmc3, hms3⟩ := up_of (moX1_changed n h a0 _ e3)
  replace hc := cst_call hc hmc3 hms3
  refine h_callr (va_runV (As := []) (rest := []) ⟨hx, hb, hml, hown, hts⟩ (mgX1_changed l D A h n a0 _ e3 mc3 ms3 hmc3 hms3) (cwV 0 hts (lw_V q666 q668 qs2 q101 q669) rfl rfl rfl (by decide +kernel) ⟨Nat.le_of_ble_eq_true rfl, Nat.le_of_ble_eq_true rfl⟩) (h_preV hGr hr hS ec3 (by decide) (q := (RX1, TX1, 7)) rfl _) rfl rfl hl.1 rfl (lv_room (Nat.le_of_ble_eq_true rfl)) dX1_setFull_9 ⟨(bud hc mm3 hmc hms).1, (bud hc mm3 hmc hms).2⟩) hS (fun rr uu H locs hw hr hS => ?_)
  obtain rfl : u3 = uu := (congrArg Prod.snd hw).symm
  obtain rfl : r3 = rr := (congrArg Prod.fst hw).symm
  refine lv_iload_n hx hb dX1_setFull_12 rfl (lv_at hl 2 rfl) ?_
  obtain ⟨gz4, hF⟩ := gd_s hF
  obtain ⟨fs4, e4, k4, lo4, hF⟩ := pV_s hF
  obtain ⟨h4, eh4⟩ : ∃ z, z = hPut u3 r3 (.inr (2, fs4.set 6 (.int p1))) := ⟨_, rfl⟩
  rw [← eh4] at hF
  refine h_putN (C := RX2) (T := TX2) (N := 11) hx hb hts in_X2 tyX2 tyX2_ok nmX2 hown hGr hr hS e4 (by decide) rfl 6 (by decide) (va_Nw.use rfl (hGr.nw q581 rfl)) (fun _ h9 => h9) rfl (tyX2_ok 6 (by decide)) (zb_of gz4) (zb_fit gz4) k4 lo4 dX1_setFull_13 (fun H locs hr hS => ?_)
  rw [← eh4] at hr
  replace hc := cst_put hc eh4
  refine lv_iload_n hx hb dX1_setFull_16 rfl (lv_at hl 0 rfl) ?_
  obtain ⟨g5, hF⟩ := gd_s hF
  have bz := bud_r hc hF hmc hms
  refine W.widen (k := mc) (n := ms) bz.1 bz.2 ?_
  exact W.zret (v := x2_) hx hb hret (zb_of g5) (fun t ht hWm => ⟨⟨x2_, h4, rfl, Option.some.inj hF, h_end hGr hr hS ht hWm⟩, hS.F ht⟩) hS.2.2 dX1_setFull_17

def GX1_step (n : Nat) (h : Hp) (a0 : Nat) : Option (Int32 × Hp) := gQ h a0 1 0 (fun x1_ => gC h x1_ 2 (bnd (GX2_copy h x1_) (fun r2 u2 => gC u2 a0 1 (bnd (GX1_become u2 a0 r2) (fun r3 u3 => gQ u3 a0 1 0 (fun x4_ => gC u3 x4_ 2 (bnd (GX2_step n u3 x4_) (fun r5 u5 => some (r5, u5)))))))))
theorem moX1_step (n : Nat) (h : Hp) (a0 : Nat) : Mo h (GX1_step n h a0) := by
  unfold GX1_step
  exact mo_gQ (fun x1_ => mo_gC (mo_bnd (moX2_copy h x1_) hle_rf (fun r2 u2 m2 => mo_gC (mo_bnd (moX1_become u2 a0 r2) m2 (fun r3 u3 m3 => mo_gQ (fun x4_ => mo_gC (mo_bnd (moX2_step n u3 x4_) m3 (fun r5 u5 m5 => mo_ret m5))))))))
set_option maxHeartbeats 4000000 in
set_option maxRecDepth 100000 in
theorem mgX1_step (l : Launch) (D : HD) (A : Nat → Prop) (h : Hp) (n : Nat) (a0 : Nat) (out : Int32 × Hp) (hF : GX1_step n h a0 = some out) (mc ms : Nat) (hmc : hCc out.2 = hCc h + mc) (hms : hSl out.2 = hSl h + ms) : Met l yX1_step (ws_ yX1_step cX1_step 1 (some .int)) ({ frames := 10, cells := mc, slots := ms, locals := 274 }) (va_Pc [.ref a0] (hW D A h)) (va_Qi (fun r u => (r, u) = out) (hW D A) A) mc ms A := by
  refine Met.ofW (cc := cX1_step) (maxL := 1) (ret := (some .int)) (by decide +kernel) rfl ?_
  intro p e s m args below meth c s₁ B hml hv
  obtain ⟨rfl, hr, hGr⟩ := hv
  have hx := B.exec
  have hb := B.bytes
  have hret := B.returns
  have hts := atoms_spec (ws := (ws_ yX1_step cX1_step 1 (some .int))) B.pre
  have hts : ∀ w ∈ lw_all, w.before _ s = true := fun w h => hts w (List.mem_cons_of_mem _ h)
  have hown : s.vm.findClass RX1 = some m.cls := findClass_of_methodNamed B.named
  have hlocks := B.notSynchronized
  have hS : va_S A s.heap s.heap [] := va_S.rf
  have hc : cst h 0 0 h := cst_0
  have hl := lv_entry ([.ref a0]) (n := 1) (Nat.le_of_ble_eq_true rfl)
  rw [lg_entry_eq]
  generalize (lg_sl ([.ref a0]) ++ List.replicate (1 - (lg_sl ([.ref a0])).length) Slot.unset).toArray = ls at hl ⊢
  have hl : lv_has ls 1 [(0, .ref a0)] := hl
  unfold GX1_step at hF
  refine lv_aload_n hx hb dX1_step_0 rfl (lv_at hl 0 rfl) ?_
  refine lv_aload_n hx hb dX1_step_1 rfl (lv_at hl 0 rfl) ?_
  obtain ⟨fs1, x1_, e1, f1, hF⟩ := gQ_s hF
  refine h_get (C := RX1) (T := TX1) (N := 7) hx hb hts in_X1 hown hGr hr e1 (by decide) rfl 0 (by decide) (hts _ q633) (fun _ h9 => h9) f1 dX1_step_2 ?_
  obtain ⟨fc2, ec2, hF⟩ := gC_s hF
  obtain ⟨r2, u2, e2, hF⟩ := bnd_s hF
  have mm2 : hle u2 out.2 := (show Mo u2 _ from mo_gC (mo_bnd (moX1_become u2 a0 r2) hle_rf (fun r3 u3 m3 => mo_gQ (fun x4_ => mo_gC (mo_bnd (moX2_step n u3 x4_) m3 (fun r5 u5 m5 => mo_ret m5)))))) _ hF
  obtain ⟨mc2, ms2, hmc2, hms2⟩ := up_of (moX2_copy h x1_ _ e2)
  replace hc := cst_call hc hmc2 hms2
  refine h_callr (va_runV (As := []) (rest := [.ref a0]) ⟨hx, hb, hml, hown, hts⟩ (mgX2_copy l D A h x1_ _ e2 mc2 ms2 hmc2 hms2) (cwV 0 hts (lw_V q851 q675 q676 q102 q677) rfl rfl rfl (by decide +kernel) ⟨Nat.le_of_ble_eq_true rfl, Nat.le_of_ble_eq_true rfl⟩) (h_preV hGr hr hS ec2 (by decide) (q := (RX2, TX2, 11)) rfl _) rfl rfl hl.1 rfl (lv_room (Nat.le_of_ble_eq_true rfl)) dX1_step_5 ⟨(bud hc mm2 hmc hms).1, (bud hc mm2 hmc hms).2⟩) hS (fun rr uu H locs hw hr hS => ?_)
  obtain rfl : u2 = uu := (congrArg Prod.snd hw).symm
  obtain rfl : r2 = rr := (congrArg Prod.fst hw).symm
  obtain ⟨fc3, ec3, hF⟩ := gC_s hF
  obtain ⟨r3, u3, e3, hF⟩ := bnd_s hF
  have mm3 : hle u3 out.2 := (show Mo u3 _ from mo_gQ (fun x4_ => mo_gC (mo_bnd (moX2_step n u3 x4_) hle_rf (fun r5 u5 m5 => mo_ret m5)))) _ hF
  obtain ⟨mc3, ms3, hmc3, hms3⟩ := up_of (moX1_become u2 a0 r2 _ e3)
  replace hc := cst_call hc hmc3 hms3
  refine h_callv (va_runV (As := [.ref r2]) (rest := []) ⟨hx, hb, hml, hown, hts⟩ (mgX1_become l D A u2 a0 r2 _ e3 mc3 ms3 hmc3 hms3) (cwV 1 hts (lw_V q770 q772 qs5 q101 q773) rfl rfl rfl (by decide +kernel) ⟨Nat.le_of_ble_eq_true rfl, Nat.le_of_ble_eq_true rfl⟩) (h_preV hGr hr hS ec3 (by decide) (q := (RX1, TX1, 7)) rfl _) rfl rfl hl.1 rfl (lv_room (Nat.le_of_ble_eq_true rfl)) dX1_step_8 ⟨(bud hc mm3 hmc hms).1, (bud hc mm3 hmc hms).2⟩) hS (fun uu H locs hw hr hS => ?_)
  obtain rfl : u3 = uu := (congrArg Prod.snd hw).symm
  refine lv_aload_n hx hb dX1_step_11 rfl (lv_at hl 0 rfl) ?_
  obtain ⟨fs4, x4_, e4, f4, hF⟩ := gQ_s hF
  refine h_get (C := RX1) (T := TX1) (N := 7) hx hb hts in_X1 hown hGr hr e4 (by decide) rfl 0 (by decide) (hts _ q633) (fun _ h9 => h9) f4 dX1_step_12 ?_
  obtain ⟨fc5, ec5, hF⟩ := gC_s hF
  obtain ⟨r5, u5, e5, hF⟩ := bnd_s hF
  have mm5 : hle u5 out.2 := (show Mo u5 _ from mo_ret hle_rf) _ hF
  obtain ⟨mc5, ms5, hmc5, hms5⟩ := up_of (moX2_step n u3 x4_ _ e5)
  replace hc := cst_call hc hmc5 hms5
  refine h_calli (va_runV (As := []) (rest := []) ⟨hx, hb, hml, hown, hts⟩ (mgX2_step l D A u3 n x4_ _ e5 mc5 ms5 hmc5 hms5) (cwV 0 hts (lw_V q852 q853 q854 q102 q855) rfl rfl rfl (by decide +kernel) ⟨Nat.le_of_ble_eq_true rfl, Nat.le_of_ble_eq_true rfl⟩) (h_preV hGr hr hS ec5 (by decide) (q := (RX2, TX2, 11)) rfl _) rfl rfl hl.1 rfl (lv_room (Nat.le_of_ble_eq_true rfl)) dX1_step_15 ⟨(bud hc mm5 hmc hms).1, (bud hc mm5 hmc hms).2⟩) hS (fun rr uu H locs hw hr hS => ?_)
  obtain rfl : u5 = uu := (congrArg Prod.snd hw).symm
  obtain rfl : r5 = rr := (congrArg Prod.fst hw).symm
  have bz := bud_r hc hF hmc hms
  refine W.widen (k := mc) (n := ms) bz.1 bz.2 ?_
  exact W.iret (v := r5) hx hb hret (fun t ht hWm => ⟨⟨r5, u5, rfl, Option.some.inj hF, h_end hGr hr hS ht hWm⟩, hS.F ht⟩) hS.2.2 dX1_step_18

def GX1_run_1 (R : Nat → Hp → Nat → Int32 → Int32 → Int32 → Option ((Int32 ⊕ Xq) × Hp)) (n : Nat) (h : Hp) (b0 : Nat) (x1 : Int32) (x2 : Int32) (x3 : Int32) : Option ((Int32 ⊕ Xq) × Hp) := if x1 ≤ x3 then gQ h b0 1 0 (fun x10_ => gQ h x10_ 2 7 (fun x11_ => gC h x11_ 10 (bnd (GJ2_size h x11_) (fun r12 u12 => some (.inl (r12 - x2), u12))))) else gQ h b0 1 0 (fun x13_ => gI h x13_ 2 9 (fun x14_ => if x14_ = 0 then gQ h b0 1 0 (fun x19_ => gC h x19_ 2 (bnd (GX2_step n h x19_) (fun r20 u20 => R 1 u20 b0 x1 x2 (x3 + 1)))) else gQ h b0 1 0 (fun x16_ => gQ h x16_ 2 7 (fun x17_ => gC h x17_ 10 (bnd (GJ2_size h x17_) (fun r18 u18 => some (.inl (r18 - x2), u18)))))))
def GX1_run_r : Nat → Nat → Hp → Nat → Int32 → Int32 → Int32 → Option ((Int32 ⊕ Xq) × Hp)
  | 0 => fun _ _ _ _ _ _ => none
  | n + 1 => fun k => match k with  | _ => GX1_run_1 (GX1_run_r n) n
def GX1_run_0 (R : Nat → Hp → Nat → Int32 → Int32 → Int32 → Option ((Int32 ⊕ Xq) × Hp)) (n : Nat) (h : Hp) (a0 : Nat) (p1 : Int32) : Option ((Int32 ⊕ Xq) × Hp) := bnd (GX1_inRange h ((p1).toInt64) (1 : Int64) (40 : Int64)) (fun r1 u1 => bnx (GX1_requireArgument u1 r1) (fun r2 u2 => gQ u2 a0 1 0 (fun x3_ => gQ u2 x3_ 2 7 (fun x4_ => gC u2 x4_ 10 (bnd (GJ2_size u2 x4_) (fun r5 u5 => gQ u5 a0 1 0 (fun x6_ => gC u5 x6_ 2 (bnd (GX2_copy u5 x6_) (fun r7 u7 => gC u7 a0 1 (bnd (GX1_become u7 a0 r7) (fun r8 u8 => R 1 u8 a0 p1 r5 (0 : Int32))))))))))))
def GX1_run (n : Nat) (h : Hp) (a0 : Nat) (p1 : Int32) : Option ((Int32 ⊕ Xq) × Hp) := GX1_run_0 (GX1_run_r n) n h a0 p1
theorem moX1_run_r (n : Nat) : (∀ (h : Hp) (b0 : Nat) (x1 : Int32) (x2 : Int32) (x3 : Int32), Mo h (GX1_run_r n 1 h b0 x1 x2 x3)) := by
  induction n with
  | zero => exact (fun _ _ _ _ _ => mo_no)
  | succ n ih =>
    have ml1 := ih
    exact (fun h b0 x1 x2 x3 => show Mo h (GX1_run_1 (GX1_run_r n) n h b0 x1 x2 x3) from by unfold GX1_run_1; exact mo_ite (mo_gQ (fun x10_ => mo_gQ (fun x11_ => mo_gC (mo_bnd (moJ2_size h x11_) hle_rf (fun r12 u12 m12 => mo_ret m12))))) (mo_gQ (fun x13_ => mo_gI (fun x14_ => mo_ite (mo_gQ (fun x19_ => mo_gC (mo_bnd (moX2_step n h x19_) hle_rf (fun r20 u20 m20 => mo_tr m20 (ml1 u20 b0 x1 x2 (x3 + 1)))))) (mo_gQ (fun x16_ => mo_gQ (fun x17_ => mo_gC (mo_bnd (moJ2_size h x17_) hle_rf (fun r18 u18 m18 => mo_ret m18)))))))))
theorem moX1_run (n : Nat) (h : Hp) (a0 : Nat) (p1 : Int32) : Mo h (GX1_run n h a0 p1) := by
  have ml1 := moX1_run_r n
  unfold GX1_run GX1_run_0
  exact mo_bnd (moX1_inRange h ((p1).toInt64) (1 : Int64) (40 : Int64)) hle_rf (fun r1 u1 m1 => mo_bnx (moX1_requireArgument u1 r1) m1 (fun r2 u2 m2 => mo_gQ (fun x3_ => mo_gQ (fun x4_ => mo_gC (mo_bnd (moJ2_size u2 x4_) m2 (fun r5 u5 m5 => mo_gQ (fun x6_ => mo_gC (mo_bnd (moX2_copy u5 x6_) m5 (fun r7 u7 m7 => mo_gC (mo_bnd (moX1_become u7 a0 r7) m7 (fun r8 u8 m8 => mo_tr m8 (ml1 u8 a0 p1 r5 (0 : Int32)))))))))))))
set_option maxHeartbeats 4000000 in
set_option maxRecDepth 100000 in
theorem mgX1_run (l : Launch) (hl0 : l.stackTraces = false) (D : HD) (A : Nat → Prop) (h : Hp) (n : Nat) (a0 : Nat) (p1 : Int32) (out : (Int32 ⊕ Xq) × Hp) (hF : GX1_run n h a0 p1 = some out) (mc ms : Nat) (hmc : hCc out.2 = hCc h + mc) (hms : hSl out.2 = hSl h + ms) : vx_Met l yX1_run (ws_ yX1_run cX1_run 5 (some .int)) ({ frames := 10, cells := mc, slots := ms, locals := 274 }) (va_Pc [.ref a0, .int p1] (hW D A h)) (va_Qi (fun r u => ((.inl r : Int32 ⊕ Xq), u) = out) (hW D A) A) (xC D A out) mc ms A := by
  refine vx_ofW (cc := cX1_run) (maxL := 5) (ret := (some .int)) (by decide +kernel) rfl ?_
  intro p e s m args below meth c s₁ B hml htb hv
  obtain ⟨rfl, hr, hGr⟩ := hv
  have hx := B.exec
  have hb := B.bytes
  have hret := B.returns
  have hts := atoms_spec (ws := (ws_ yX1_run cX1_run 5 (some .int))) B.pre
  have hts : ∀ w ∈ lw_all, w.before _ s = true := fun w h => hts w (List.mem_cons_of_mem _ h)
  have hown : s.vm.findClass RX1 = some m.cls := findClass_of_methodNamed B.named
  have hlocks := B.notSynchronized
  have hS : va_S A s.heap s.heap [] := va_S.rf
  have hc : cst h 0 0 h := cst_0
  have hl := lv_entry ([.ref a0, .int p1]) (n := 5) (Nat.le_of_ble_eq_true rfl)
  rw [lg_entry_eq]
  generalize (lg_sl ([.ref a0, .int p1]) ++ List.replicate (5 - (lg_sl ([.ref a0, .int p1])).length) Slot.unset).toArray = ls at hl ⊢
  have hl : lv_has ls 5 [(0, .ref a0), (1, .int p1)] := hl
  obtain ⟨h0, eh0⟩ : ∃ z, z = h := ⟨_, rfl⟩
  rw [← eh0] at hmc hms
  have loop : ∀ n : Nat, (∀ (h : Hp) (b0 : Nat) (x1 : Int32) (x2 : Int32) (x3 : Int32), GX1_run_r n 1 h b0 x1 x2 x3 = some out → ∀ (H : Heap) (locs : List Loc) (cells slots : Nat), cst h0 cells slots h → hR D A h H → va_S A s.heap H locs → ∀ ls : Array Slot, lv_has ls 5 [(0, .ref b0), (1, .int x1), (2, .int x2), (3, .int x3)] → W p l e (headSpec (ws_ yX1_run cX1_run 5 (some .int)) ({ frames := 10, cells := mc, slots := ms, locals := 274 })).room s m ([.ref a0, .int p1] : List Value).toArray below meth c H locs cells slots (vx_MQ below (va_Qi (fun r u => ((.inl r : Int32 ⊕ Xq), u) = out) (hW D A) A) (xC D A out) ([.ref a0, .int p1] : List Value).toArray s mc ms A) (F0 m 38 ls [])) := by
    intro n
    induction n with
    | zero => exact (fun _ _ _ _ _ h => nomatch h)
    | succ n ih =>
      have lp1 := ih
      have ml1 := moX1_run_r n
      intro h b0 x1 x2 x3 hF H locs cells slots hc hr hS ls hl
      replace hF : GX1_run_1 (GX1_run_r n) n h b0 x1 x2 x3 = some out := hF
      unfold GX1_run_1 at hF
      refine lv_iload_n hx hb dX1_run_38 rfl (lv_at hl 3 rfl) ?_
      refine lv_iload_n hx hb dX1_run_39 rfl (lv_at hl 1 rfl) ?_
      refine lv_icmp_ge (tgt := 68) hx hb dX1_run_40 (by decide) (fun c9 => ?_) (fun c9 => ?_)
      · replace hF := it_t c9 hF
        refine lv_aload_n hx hb dX1_run_68 rfl (lv_at hl 0 rfl) ?_
        obtain ⟨fs10, x10_, e10, f10, hF⟩ := gQ_s hF
        refine h_get (C := RX1) (T := TX1) (N := 7) hx hb hts in_X1 hown hGr hr e10 (by decide) rfl 0 (by decide) (hts _ q633) (fun _ h9 => h9) f10 dX1_run_69 ?_
        obtain ⟨fs11, x11_, e11, f11, hF⟩ := gQ_s hF
        refine h_getN (C := RX2) (T := TX2) (N := 11) hx hb hts in_X2 hown hGr hr e11 (by decide) rfl 7 (by decide) (va_Nw.use rfl (hGr.nw q583 rfl)) (fun _ h9 => h9) f11 dX1_run_72 ?_
        obtain ⟨fc12, ec12, hF⟩ := gC_s hF
        obtain ⟨r12, u12, e12, hF⟩ := bnd_s hF
        have mm12 : hle u12 out.2 := (show Mo u12 _ from mo_ret hle_rf) _ hF
        obtain ⟨mc12, ms12, hmc12, hms12⟩ := up_of (moJ2_size h x11_ _ e12)
        replace hc := cst_call hc hmc12 hms12
        refine h_callFi (va_runF (hGr.K.1 10 _ rfl).2 (As := []) (rest := []) ⟨hx, hb, hml, hown, hts⟩ (mgJ2_size l D A h x11_ _ e12 mc12 ms12 hmc12 hms12) (va_cwF 0 hts (lw_app (lw_fi q1068 q875 q877 q106) (lw_meth q879)) rfl rfl rfl (fw_5 hGr) (by decide +kernel) ⟨Nat.le_of_ble_eq_true rfl, Nat.le_of_ble_eq_true rfl⟩) (h_preV hGr hr hS ec12 (by decide) (q := (RJ2, TJ2, 3)) rfl _) rfl rfl hl.1 rfl (lv_room (Nat.le_of_ble_eq_true rfl)) dX1_run_75 ⟨(bud hc mm12 hmc hms).1, (bud hc mm12 hmc hms).2⟩) hS (fun rr uu H locs hw hr hS => ?_)
        obtain rfl : u12 = uu := (congrArg Prod.snd hw).symm
        obtain rfl : r12 = rr := (congrArg Prod.fst hw).symm
        refine lv_iload_n hx hb dX1_run_80 rfl (lv_at hl 2 rfl) ?_
        refine lv_isub hx hb dX1_run_81 ?_
        have bz := bud_r hc hF hmc hms
        refine vx_ret ?_
        refine W.widen (k := mc) (n := ms) bz.1 bz.2 ?_
        exact W.iret (v := (r12 - x2)) hx hb hret (fun t ht hWm => ⟨⟨(r12 - x2), u12, rfl, Option.some.inj hF, h_end hGr hr hS ht hWm⟩, hS.F ht⟩) hS.2.2 dX1_run_82
      · replace hF := it_f c9 hF
        refine lv_aload_n hx hb dX1_run_43 rfl (lv_at hl 0 rfl) ?_
        obtain ⟨fs13, x13_, e13, f13, hF⟩ := gQ_s hF
        refine h_get (C := RX1) (T := TX1) (N := 7) hx hb hts in_X1 hown hGr hr e13 (by decide) rfl 0 (by decide) (hts _ q633) (fun _ h9 => h9) f13 dX1_run_44 ?_
        obtain ⟨fs14, x14_, e14, f14, hF⟩ := gI_s hF
        refine h_getN (C := RX2) (T := TX2) (N := 11) hx hb hts in_X2 hown hGr hr e14 (by decide) rfl 9 (by decide) (va_Nw.use rfl (hGr.nw q587 rfl)) (fun _ h9 => h9) f14 dX1_run_47 ?_
        refine lv_if_ne (tgt := 68) hx hb dX1_run_50 (by decide) (fun c15 => ?_) (fun c15 => ?_)
        · replace hF := it_f c15 hF
          refine lv_aload_n hx hb dX1_run_68 rfl (lv_at hl 0 rfl) ?_
          obtain ⟨fs16, x16_, e16, f16, hF⟩ := gQ_s hF
          refine h_get (C := RX1) (T := TX1) (N := 7) hx hb hts in_X1 hown hGr hr e16 (by decide) rfl 0 (by decide) (hts _ q633) (fun _ h9 => h9) f16 dX1_run_69 ?_
          obtain ⟨fs17, x17_, e17, f17, hF⟩ := gQ_s hF
          refine h_getN (C := RX2) (T := TX2) (N := 11) hx hb hts in_X2 hown hGr hr e17 (by decide) rfl 7 (by decide) (va_Nw.use rfl (hGr.nw q583 rfl)) (fun _ h9 => h9) f17 dX1_run_72 ?_
          obtain ⟨fc18, ec18, hF⟩ := gC_s hF
          obtain ⟨r18, u18, e18, hF⟩ := bnd_s hF
          have mm18 : hle u18 out.2 := (show Mo u18 _ from mo_ret hle_rf) _ hF
          obtain ⟨mc18, ms18, hmc18, hms18⟩ := up_of (moJ2_size h x17_ _ e18)
          replace hc := cst_call hc hmc18 hms18
          refine h_callFi (va_runF (hGr.K.1 10 _ rfl).2 (As := []) (rest := []) ⟨hx, hb, hml, hown, hts⟩ (mgJ2_size l D A h x17_ _ e18 mc18 ms18 hmc18 hms18) (va_cwF 0 hts (lw_app (lw_fi q1068 q875 q877 q106) (lw_meth q879)) rfl rfl rfl (fw_5 hGr) (by decide +kernel) ⟨Nat.le_of_ble_eq_true rfl, Nat.le_of_ble_eq_true rfl⟩) (h_preV hGr hr hS ec18 (by decide) (q := (RJ2, TJ2, 3)) rfl _) rfl rfl hl.1 rfl (lv_room (Nat.le_of_ble_eq_true rfl)) dX1_run_75 ⟨(bud hc mm18 hmc hms).1, (bud hc mm18 hmc hms).2⟩) hS (fun rr uu H locs hw hr hS => ?_)
          obtain rfl : u18 = uu := (congrArg Prod.snd hw).symm
          obtain rfl : r18 = rr := (congrArg Prod.fst hw).symm
          refine lv_iload_n hx hb dX1_run_80 rfl (lv_at hl 2 rfl) ?_
          refine lv_isub hx hb dX1_run_81 ?_
          have bz := bud_r hc hF hmc hms
          refine vx_ret ?_
          refine W.widen (k := mc) (n := ms) bz.1 bz.2 ?_
          exact W.iret (v := (r18 - x2)) hx hb hret (fun t ht hWm => ⟨⟨(r18 - x2), u18, rfl, Option.some.inj hF, h_end hGr hr hS ht hWm⟩, hS.F ht⟩) hS.2.2 dX1_run_82
        · replace hF := it_t c15 hF
          refine lv_aload_n hx hb dX1_run_53 rfl (lv_at hl 0 rfl) ?_
          obtain ⟨fs19, x19_, e19, f19, hF⟩ := gQ_s hF
          refine h_get (C := RX1) (T := TX1) (N := 7) hx hb hts in_X1 hown hGr hr e19 (by decide) rfl 0 (by decide) (hts _ q633) (fun _ h9 => h9) f19 dX1_run_54 ?_
          obtain ⟨fc20, ec20, hF⟩ := gC_s hF
          obtain ⟨r20, u20, e20, hF⟩ := bnd_s hF
          have mm20 : hle u20 out.2 := (show Mo u20 _ from mo_tr hle_rf (ml1 u20 b0 x1 x2 (x3 + 1))) _ hF
          obtain ⟨mc20, ms20, hmc20, hms20⟩ := up_of (moX2_step n h x19_ _ e20)
          replace hc := cst_call hc hmc20 hms20
          refine h_calli (va_runV (As := []) (rest := []) ⟨hx, hb, hml, hown, hts⟩ (mgX2_step l D A h n x19_ _ e20 mc20 ms20 hmc20 hms20) (cwV 0 hts (lw_V q852 q853 q854 q102 q855) rfl rfl rfl (by decide +kernel) ⟨Nat.le_of_ble_eq_true rfl, Nat.le_of_ble_eq_true rfl⟩) (h_preV hGr hr hS ec20 (by decide) (q := (RX2, TX2, 11)) rfl _) rfl rfl hl.1 rfl (lv_room (Nat.le_of_ble_eq_true rfl)) dX1_run_57 ⟨(bud hc mm20 hmc hms).1, (bud hc mm20 hmc hms).2⟩) hS (fun rr uu H locs hw hr hS => ?_)
          obtain rfl : u20 = uu := (congrArg Prod.snd hw).symm
          obtain rfl : r20 = rr := (congrArg Prod.fst hw).symm
          refine lv_istore (lv' := [(4, .int r20), (0, .ref b0), (1, .int x1), (2, .int x2), (3, .int x3)]) hx hb dX1_run_60 hl (by decide) rfl (fun ls hl => ?_)
          refine lv_iinc (v := (x3 + 1)) (lv' := [(3, .int (x3 + 1)), (4, .int r20), (0, .ref b0), (1, .int x1), (2, .int x2)]) hx hb dX1_run_62 hl (k := 4) rfl rfl (by decide) rfl (fun ls hl => ?_)
          refine lv_goto (tgt := 38) hx hb dX1_run_65 (by decide) ?_
          exact lp1 u20 b0 x1 x2 (x3 + 1) hF _ _ _ _ hc hr hS ls (lv_sub hl [2, 3, 4, 0] rfl)
  have lp1 := loop n
  have ml1 := moX1_run_r n
  have hc : cst h0 0 0 h := by rw [eh0]; exact cst_0
  unfold GX1_run GX1_run_0 at hF
  refine lv_iload_n hx hb dX1_run_0 rfl (lv_at hl 1 rfl) ?_
  refine lv_i2l (v := (p1).toInt64) hx hb dX1_run_1 rfl ?_
  refine lv_lconst (v := 1) hx hb dX1_run_2 (by decide) ?_
  refine lv_ldc2 hx hb hown (hts _ q1765) dX1_run_3 ?_
  obtain ⟨r1, u1, e1, hF⟩ := bnd_s hF
  have mm1 : hle u1 out.2 := (show Mo u1 _ from mo_bnx (moX1_requireArgument u1 r1) hle_rf (fun r2 u2 m2 => mo_gQ (fun x3_ => mo_gQ (fun x4_ => mo_gC (mo_bnd (moJ2_size u2 x4_) m2 (fun r5 u5 m5 => mo_gQ (fun x6_ => mo_gC (mo_bnd (moX2_copy u5 x6_) m5 (fun r7 u7 m7 => mo_gC (mo_bnd (moX1_become u7 a0 r7) m7 (fun r8 u8 m8 => mo_tr m8 (ml1 u8 a0 p1 r5 (0 : Int32))))))))))))) _ hF
  obtain ⟨mc1, ms1, hmc1, hms1⟩ := up_of (moX1_inRange h ((p1).toInt64) (1 : Int64) (40 : Int64) _ e1)
  replace hc := cst_call hc hmc1 hms1
  refine h_calli (va_runS (As := [.long ((p1).toInt64), .long (1 : Int64), .long (40 : Int64)]) (rest := []) ⟨hx, hb, hml, hown, hts⟩ (mgX1_inRange l D A h ((p1).toInt64) (1 : Int64) (40 : Int64) _ e1 mc1 ms1 hmc1 hms1) (va_cwS 3 hts (lw_S q1420 q1421 q101 q1422) rfl rfl rfl (by decide +kernel) ⟨Nat.le_of_ble_eq_true rfl, Nat.le_of_ble_eq_true rfl⟩) (h_preS hGr hr hS _) rfl rfl hl.1 rfl (lv_room (Nat.le_of_ble_eq_true rfl)) dX1_run_6 ⟨(bud hc mm1 hmc hms).1, (bud hc mm1 hmc hms).2⟩) hS (fun rr uu H locs hw hr hS => ?_)
  obtain rfl : u1 = uu := (congrArg Prod.snd hw).symm
  obtain rfl : r1 = rr := (congrArg Prod.fst hw).symm
  rcases bnx_s hF with ⟨r2, u2, e2, hF⟩ | ⟨q2, u2, e2, hF⟩
  rotate_left
  · obtain ⟨mc2, ms2, hmc2, hms2⟩ := up_of (moX1_requireArgument u1 r1 _ e2)
    have hcx := cst_call hc hmc2 hms2
    have bx2 := bud_r hcx hF hmc hms
    refine h_xthrv rfl (vx_runS (As := [.int r1]) (rest := []) ⟨hx, hb, hml, hown, hts⟩ (mgX1_requireArgument l hl0 D A u1 r1 _ e2 mc2 ms2 hmc2 hms2) (va_cwS 1 hts (lw_S q1423 q1424 q101 q1425) rfl rfl rfl (by decide +kernel) ⟨Nat.le_of_ble_eq_true rfl, Nat.le_of_ble_eq_true rfl⟩) (h_preS hGr hr hS _) rfl rfl hl.1 rfl (lv_room (Nat.le_of_ble_eq_true rfl)) dX1_run_9 ⟨bx2.1, bx2.2⟩) hS (fun E9 q9 u9 H locs ce9 e1 e2 e3 hr hS h1 h2 h3 => ?_)
    exact h_xpass hGr htb hlocks hF bx2 e1 e2 e3 hr hS h1 h2 h3
  have mm2 : hle u2 out.2 := (show Mo u2 _ from mo_gQ (fun x3_ => mo_gQ (fun x4_ => mo_gC (mo_bnd (moJ2_size u2 x4_) hle_rf (fun r5 u5 m5 => mo_gQ (fun x6_ => mo_gC (mo_bnd (moX2_copy u5 x6_) m5 (fun r7 u7 m7 => mo_gC (mo_bnd (moX1_become u7 a0 r7) m7 (fun r8 u8 m8 => mo_tr m8 (ml1 u8 a0 p1 r5 (0 : Int32)))))))))))) _ hF
  obtain ⟨mc2, ms2, hmc2, hms2⟩ := up_of (moX1_requireArgument u1 r1 _ e2)
  replace hc := cst_call hc hmc2 hms2
  refine h_xretv rfl (vx_runS (As := [.int r1]) (rest := []) ⟨hx, hb, hml, hown, hts⟩ (mgX1_requireArgument l hl0 D A u1 r1 _ e2 mc2 ms2 hmc2 hms2) (va_cwS 1 hts (lw_S q1423 q1424 q101 q1425) rfl rfl rfl (by decide +kernel) ⟨Nat.le_of_ble_eq_true rfl, Nat.le_of_ble_eq_true rfl⟩) (h_preS hGr hr hS _) rfl rfl hl.1 rfl (lv_room (Nat.le_of_ble_eq_true rfl)) dX1_run_9 ⟨(bud hc mm2 hmc hms).1, (bud hc mm2 hmc hms).2⟩) hS (fun H locs hr hS => ?_)
  refine lv_aload_n hx hb dX1_run_12 rfl (lv_at hl 0 rfl) ?_
  obtain ⟨fs3, x3_, e3, f3, hF⟩ := gQ_s hF
  refine h_get (C := RX1) (T := TX1) (N := 7) hx hb hts in_X1 hown hGr hr e3 (by decide) rfl 0 (by decide) (hts _ q633) (fun _ h9 => h9) f3 dX1_run_13 ?_
  obtain ⟨fs4, x4_, e4, f4, hF⟩ := gQ_s hF
  refine h_getN (C := RX2) (T := TX2) (N := 11) hx hb hts in_X2 hown hGr hr e4 (by decide) rfl 7 (by decide) (va_Nw.use rfl (hGr.nw q583 rfl)) (fun _ h9 => h9) f4 dX1_run_16 ?_
  obtain ⟨fc5, ec5, hF⟩ := gC_s hF
  obtain ⟨r5, u5, e5, hF⟩ := bnd_s hF
  have mm5 : hle u5 out.2 := (show Mo u5 _ from mo_gQ (fun x6_ => mo_gC (mo_bnd (moX2_copy u5 x6_) hle_rf (fun r7 u7 m7 => mo_gC (mo_bnd (moX1_become u7 a0 r7) m7 (fun r8 u8 m8 => mo_tr m8 (ml1 u8 a0 p1 r5 (0 : Int32)))))))) _ hF
  obtain ⟨mc5, ms5, hmc5, hms5⟩ := up_of (moJ2_size u2 x4_ _ e5)
  replace hc := cst_call hc hmc5 hms5
  refine h_callFi (va_runF (hGr.K.1 10 _ rfl).2 (As := []) (rest := []) ⟨hx, hb, hml, hown, hts⟩ (mgJ2_size l D A u2 x4_ _ e5 mc5 ms5 hmc5 hms5) (va_cwF 0 hts (lw_app (lw_fi q1068 q875 q877 q106) (lw_meth q879)) rfl rfl rfl (fw_5 hGr) (by decide +kernel) ⟨Nat.le_of_ble_eq_true rfl, Nat.le_of_ble_eq_true rfl⟩) (h_preV hGr hr hS ec5 (by decide) (q := (RJ2, TJ2, 3)) rfl _) rfl rfl hl.1 rfl (lv_room (Nat.le_of_ble_eq_true rfl)) dX1_run_19 ⟨(bud hc mm5 hmc hms).1, (bud hc mm5 hmc hms).2⟩) hS (fun rr uu H locs hw hr hS => ?_)
  obtain rfl : u5 = uu := (congrArg Prod.snd hw).symm
  obtain rfl : r5 = rr := (congrArg Prod.fst hw).symm
  refine lv_istore_n (lv' := [(2, .int r5), (0, .ref a0), (1, .int p1)]) hx hb dX1_run_24 rfl hl (by decide) rfl (fun ls hl => ?_)
  refine lv_aload_n hx hb dX1_run_25 rfl (lv_at hl 1 rfl) ?_
  refine lv_aload_n hx hb dX1_run_26 rfl (lv_at hl 1 rfl) ?_
  obtain ⟨fs6, x6_, e6, f6, hF⟩ := gQ_s hF
  refine h_get (C := RX1) (T := TX1) (N := 7) hx hb hts in_X1 hown hGr hr e6 (by decide) rfl 0 (by decide) (hts _ q633) (fun _ h9 => h9) f6 dX1_run_27 ?_
  obtain ⟨fc7, ec7, hF⟩ := gC_s hF
  obtain ⟨r7, u7, e7, hF⟩ := bnd_s hF
  have mm7 : hle u7 out.2 := (show Mo u7 _ from mo_gC (mo_bnd (moX1_become u7 a0 r7) hle_rf (fun r8 u8 m8 => mo_tr m8 (ml1 u8 a0 p1 r5 (0 : Int32))))) _ hF
  obtain ⟨mc7, ms7, hmc7, hms7⟩ := up_of (moX2_copy u5 x6_ _ e7)
  replace hc := cst_call hc hmc7 hms7
  refine h_callr (va_runV (As := []) (rest := [.ref a0]) ⟨hx, hb, hml, hown, hts⟩ (mgX2_copy l D A u5 x6_ _ e7 mc7 ms7 hmc7 hms7) (cwV 0 hts (lw_V q851 q675 q676 q102 q677) rfl rfl rfl (by decide +kernel) ⟨Nat.le_of_ble_eq_true rfl, Nat.le_of_ble_eq_true rfl⟩) (h_preV hGr hr hS ec7 (by decide) (q := (RX2, TX2, 11)) rfl _) rfl rfl hl.1 rfl (lv_room (Nat.le_of_ble_eq_true rfl)) dX1_run_30 ⟨(bud hc mm7 hmc hms).1, (bud hc mm7 hmc hms).2⟩) hS (fun rr uu H locs hw hr hS => ?_)
  obtain rfl : u7 = uu := (congrArg Prod.snd hw).symm
  obtain rfl : r7 = rr := (congrArg Prod.fst hw).symm
  obtain ⟨fc8, ec8, hF⟩ := gC_s hF
  obtain ⟨r8, u8, e8, hF⟩ := bnd_s hF
  have mm8 : hle u8 out.2 := (show Mo u8 _ from mo_tr hle_rf (ml1 u8 a0 p1 r5 (0 : Int32))) _ hF
  obtain ⟨mc8, ms8, hmc8, hms8⟩ := up_of (moX1_become u7 a0 r7 _ e8)
  replace hc := cst_call hc hmc8 hms8
  refine h_callv (va_runV (As := [.ref r7]) (rest := []) ⟨hx, hb, hml, hown, hts⟩ (mgX1_become l D A u7 a0 r7 _ e8 mc8 ms8 hmc8 hms8) (cwV 1 hts (lw_V q770 q772 qs5 q101 q773) rfl rfl rfl (by decide +kernel) ⟨Nat.le_of_ble_eq_true rfl, Nat.le_of_ble_eq_true rfl⟩) (h_preV hGr hr hS ec8 (by decide) (q := (RX1, TX1, 7)) rfl _) rfl rfl hl.1 rfl (lv_room (Nat.le_of_ble_eq_true rfl)) dX1_run_33 ⟨(bud hc mm8 hmc hms).1, (bud hc mm8 hmc hms).2⟩) hS (fun uu H locs hw hr hS => ?_)
  obtain rfl : u8 = uu := (congrArg Prod.snd hw).symm
  refine lv_iconst (v := 0) hx hb dX1_run_36 (by decide) ?_
  refine lv_istore_n (lv' := [(3, .int 0), (2, .int r5), (0, .ref a0), (1, .int p1)]) hx hb dX1_run_37 rfl hl (by decide) rfl (fun ls hl => ?_)
  exact lp1 u8 a0 p1 r5 (0 : Int32) hF _ _ _ _ hc hr hS ls (lv_sub hl [2, 3, 1, 0] rfl)

def GX1_reset (n : Nat) (h : Hp) (a0 : Nat) : Option (Int32 × Hp) := gQ h a0 1 0 (fun x1_ => gQ h x1_ 2 7 (fun x2_ => gC h x2_ 10 (bnd (GJ2_size h x2_) (fun r3 u3 => gC u3 a0 1 (bnd (GX1_changed n u3 a0) (fun r4 u4 => some (r3, u4)))))))
theorem moX1_reset (n : Nat) (h : Hp) (a0 : Nat) : Mo h (GX1_reset n h a0) := by
  unfold GX1_reset
  exact mo_gQ (fun x1_ => mo_gQ (fun x2_ => mo_gC (mo_bnd (moJ2_size h x2_) hle_rf (fun r3 u3 m3 => mo_gC (mo_bnd (moX1_changed n u3 a0) m3 (fun r4 u4 m4 => mo_ret m4))))))
set_option maxHeartbeats 4000000 in
set_option maxRecDepth 100000 in
theorem mgX1_reset (l : Launch) (D : HD) (A : Nat → Prop) (h : Hp) (n : Nat) (a0 : Nat) (out : Int32 × Hp) (hF : GX1_reset n h a0 = some out) (mc ms : Nat) (hmc : hCc out.2 = hCc h + mc) (hms : hSl out.2 = hSl h + ms) : Met l yX1_reset (ws_ yX1_reset cX1_reset 3 (some .int)) ({ frames := 8, cells := mc, slots := ms, locals := 234 }) (va_Pc [.ref a0] (hW D A h)) (va_Qi (fun r u => (r, u) = out) (hW D A) A) mc ms A := by
  refine Met.ofW (cc := cX1_reset) (maxL := 3) (ret := (some .int)) (by decide +kernel) rfl ?_
  intro p e s m args below meth c s₁ B hml hv
  obtain ⟨rfl, hr, hGr⟩ := hv
  have hx := B.exec
  have hb := B.bytes
  have hret := B.returns
  have hts := atoms_spec (ws := (ws_ yX1_reset cX1_reset 3 (some .int))) B.pre
  have hts : ∀ w ∈ lw_all, w.before _ s = true := fun w h => hts w (List.mem_cons_of_mem _ h)
  have hown : s.vm.findClass RX1 = some m.cls := findClass_of_methodNamed B.named
  have hlocks := B.notSynchronized
  have hS : va_S A s.heap s.heap [] := va_S.rf
  have hc : cst h 0 0 h := cst_0
  have hl := lv_entry ([.ref a0]) (n := 3) (Nat.le_of_ble_eq_true rfl)
  rw [lg_entry_eq]
  generalize (lg_sl ([.ref a0]) ++ List.replicate (3 - (lg_sl ([.ref a0])).length) Slot.unset).toArray = ls at hl ⊢
  have hl : lv_has ls 3 [(0, .ref a0)] := hl
  unfold GX1_reset at hF
  refine lv_aload_n hx hb dX1_reset_0 rfl (lv_at hl 0 rfl) ?_
  obtain ⟨fs1, x1_, e1, f1, hF⟩ := gQ_s hF
  refine h_get (C := RX1) (T := TX1) (N := 7) hx hb hts in_X1 hown hGr hr e1 (by decide) rfl 0 (by decide) (hts _ q633) (fun _ h9 => h9) f1 dX1_reset_1 ?_
  obtain ⟨fs2, x2_, e2, f2, hF⟩ := gQ_s hF
  refine h_getN (C := RX2) (T := TX2) (N := 11) hx hb hts in_X2 hown hGr hr e2 (by decide) rfl 7 (by decide) (va_Nw.use rfl (hGr.nw q583 rfl)) (fun _ h9 => h9) f2 dX1_reset_4 ?_
  obtain ⟨fc3, ec3, hF⟩ := gC_s hF
  obtain ⟨r3, u3, e3, hF⟩ := bnd_s hF
  have mm3 : hle u3 out.2 := (show Mo u3 _ from mo_gC (mo_bnd (moX1_changed n u3 a0) hle_rf (fun r4 u4 m4 => mo_ret m4))) _ hF
  obtain ⟨mc3, ms3, hmc3, hms3⟩ := up_of (moJ2_size h x2_ _ e3)
  replace hc := cst_call hc hmc3 hms3
  refine h_callFi (va_runF (hGr.K.1 10 _ rfl).2 (As := []) (rest := []) ⟨hx, hb, hml, hown, hts⟩ (mgJ2_size l D A h x2_ _ e3 mc3 ms3 hmc3 hms3) (va_cwF 0 hts (lw_app (lw_fi q1068 q875 q877 q106) (lw_meth q879)) rfl rfl rfl (fw_5 hGr) (by decide +kernel) ⟨Nat.le_of_ble_eq_true rfl, Nat.le_of_ble_eq_true rfl⟩) (h_preV hGr hr hS ec3 (by decide) (q := (RJ2, TJ2, 3)) rfl _) rfl rfl hl.1 rfl (lv_room (Nat.le_of_ble_eq_true rfl)) dX1_reset_7 ⟨(bud hc mm3 hmc hms).1, (bud hc mm3 hmc hms).2⟩) hS (fun rr uu H locs hw hr hS => ?_)
  obtain rfl : u3 = uu := (congrArg Prod.snd hw).symm
  obtain rfl : r3 = rr := (congrArg Prod.fst hw).symm
  refine lv_istore_n (lv' := [(1, .int r3), (0, .ref a0)]) hx hb dX1_reset_12 rfl hl (by decide) rfl (fun ls hl => ?_)
  refine lv_aload_n hx hb dX1_reset_13 rfl (lv_at hl 1 rfl) ?_
  obtain ⟨fc4, ec4, hF⟩ := gC_s hF
  obtain ⟨r4, u4, e4, hF⟩ := bnd_s hF
  have mm4 : hle u4 out.2 := (show Mo u4 _ from mo_ret hle_rf) _ hF
  obtain ⟨mc4, ms4, hmc4, hms4⟩ := up_of (moX1_changed n u3 a0 _ e4)
  replace hc := cst_call hc hmc4 hms4
  refine h_callr (va_runV (As := []) (rest := []) ⟨hx, hb, hml, hown, hts⟩ (mgX1_changed l D A u3 n a0 _ e4 mc4 ms4 hmc4 hms4) (cwV 0 hts (lw_V q666 q668 qs2 q101 q669) rfl rfl rfl (by decide +kernel) ⟨Nat.le_of_ble_eq_true rfl, Nat.le_of_ble_eq_true rfl⟩) (h_preV hGr hr hS ec4 (by decide) (q := (RX1, TX1, 7)) rfl _) rfl rfl hl.1 rfl (lv_room (Nat.le_of_ble_eq_true rfl)) dX1_reset_14 ⟨(bud hc mm4 hmc hms).1, (bud hc mm4 hmc hms).2⟩) hS (fun rr uu H locs hw hr hS => ?_)
  obtain rfl : u4 = uu := (congrArg Prod.snd hw).symm
  obtain rfl : r4 = rr := (congrArg Prod.fst hw).symm
  refine lv_astore_n (lv' := [(2, .ref r4), (1, .int r3), (0, .ref a0)]) hx hb dX1_reset_17 rfl hl (by decide) rfl (fun ls hl => ?_)
  refine lv_iload_n hx hb dX1_reset_18 rfl (lv_at hl 1 rfl) ?_
  have bz := bud_r hc hF hmc hms
  refine W.widen (k := mc) (n := ms) bz.1 bz.2 ?_
  exact W.iret (v := r3) hx hb hret (fun t ht hWm => ⟨⟨r3, u4, rfl, Option.some.inj hF, h_end hGr hr hS ht hWm⟩, hS.F ht⟩) hS.2.2 dX1_reset_19

def GX1_chainAt (h : Hp) (a0 : Nat) (p1 : Int32) : Option ((Nat ⊕ Xq) × Hp) := gQ h a0 1 0 (fun x1_ => gQ h x1_ 2 8 (fun x2_ => gC h x2_ 10 (bnd (GJ2_size h x2_) (fun r3 u3 => bnx (GX1_requireIndex u3 p1 r3) (fun r4 u4 => gQ u4 a0 1 0 (fun x5_ => gQ u4 x5_ 2 8 (fun x6_ => gC u4 x6_ 10 (bnd (GJ2_get u4 x6_ p1) (fun r7 u7 => gC u7 r7 7 (some (.inl r7, u7)))))))))))
theorem moX1_chainAt (h : Hp) (a0 : Nat) (p1 : Int32) : Mo h (GX1_chainAt h a0 p1) := by
  unfold GX1_chainAt
  exact mo_gQ (fun x1_ => mo_gQ (fun x2_ => mo_gC (mo_bnd (moJ2_size h x2_) hle_rf (fun r3 u3 m3 => mo_bnx (moX1_requireIndex u3 p1 r3) m3 (fun r4 u4 m4 => mo_gQ (fun x5_ => mo_gQ (fun x6_ => mo_gC (mo_bnd (moJ2_get u4 x6_ p1) m4 (fun r7 u7 m7 => mo_gC (mo_ret m7))))))))))
set_option maxHeartbeats 4000000 in
set_option maxRecDepth 100000 in
theorem mgX1_chainAt (l : Launch) (hl0 : l.stackTraces = false) (D : HD) (A : Nat → Prop) (h : Hp) (a0 : Nat) (p1 : Int32) (out : (Nat ⊕ Xq) × Hp) (hF : GX1_chainAt h a0 p1 = some out) (mc ms : Nat) (hmc : hCc out.2 = hCc h + mc) (hms : hSl out.2 = hSl h + ms) : vx_Met l yX1_chainAt (ws_ yX1_chainAt cX1_chainAt 2 (some (.object "ExactChains$Chain"))) ({ frames := 7, cells := mc, slots := ms, locals := 121 }) (va_Pc [.ref a0, .int p1] (hW D A h)) (va_Qr (fun _ : Hp => True) (fun u r t => ((.inl r : Nat ⊕ Xq), u) = out ∧ hW D A u t) A) (xC D A out) mc ms A := by
  refine vx_ofW (cc := cX1_chainAt) (maxL := 2) (ret := (some (.object "ExactChains$Chain"))) (by decide +kernel) rfl ?_
  intro p e s m args below meth c s₁ B hml htb hv
  obtain ⟨rfl, hr, hGr⟩ := hv
  have hx := B.exec
  have hb := B.bytes
  have hret := B.returns
  have hts := atoms_spec (ws := (ws_ yX1_chainAt cX1_chainAt 2 (some (.object "ExactChains$Chain")))) B.pre
  have hts : ∀ w ∈ lw_all, w.before _ s = true := fun w h => hts w (List.mem_cons_of_mem _ h)
  have hown : s.vm.findClass RX1 = some m.cls := findClass_of_methodNamed B.named
  have hlocks := B.notSynchronized
  have hS : va_S A s.heap s.heap [] := va_S.rf
  have hc : cst h 0 0 h := cst_0
  have hl := lv_entry ([.ref a0, .int p1]) (n := 2) (Nat.le_of_ble_eq_true rfl)
  rw [lg_entry_eq]
  generalize (lg_sl ([.ref a0, .int p1]) ++ List.replicate (2 - (lg_sl ([.ref a0, .int p1])).length) Slot.unset).toArray = ls at hl ⊢
  have hl : lv_has ls 2 [(0, .ref a0), (1, .int p1)] := hl
  unfold GX1_chainAt at hF
  refine lv_iload_n hx hb dX1_chainAt_0 rfl (lv_at hl 1 rfl) ?_
  refine lv_aload_n hx hb dX1_chainAt_1 rfl (lv_at hl 0 rfl) ?_
  obtain ⟨fs1, x1_, e1, f1, hF⟩ := gQ_s hF
  refine h_get (C := RX1) (T := TX1) (N := 7) hx hb hts in_X1 hown hGr hr e1 (by decide) rfl 0 (by decide) (hts _ q633) (fun _ h9 => h9) f1 dX1_chainAt_2 ?_
  obtain ⟨fs2, x2_, e2, f2, hF⟩ := gQ_s hF
  refine h_getN (C := RX2) (T := TX2) (N := 11) hx hb hts in_X2 hown hGr hr e2 (by decide) rfl 8 (by decide) (va_Nw.use rfl (hGr.nw q585 rfl)) (fun _ h9 => h9) f2 dX1_chainAt_5 ?_
  obtain ⟨fc3, ec3, hF⟩ := gC_s hF
  obtain ⟨r3, u3, e3, hF⟩ := bnd_s hF
  have mm3 : hle u3 out.2 := (show Mo u3 _ from mo_bnx (moX1_requireIndex u3 p1 r3) hle_rf (fun r4 u4 m4 => mo_gQ (fun x5_ => mo_gQ (fun x6_ => mo_gC (mo_bnd (moJ2_get u4 x6_ p1) m4 (fun r7 u7 m7 => mo_gC (mo_ret m7))))))) _ hF
  obtain ⟨mc3, ms3, hmc3, hms3⟩ := up_of (moJ2_size h x2_ _ e3)
  replace hc := cst_call hc hmc3 hms3
  refine h_callFi (va_runF (hGr.K.1 10 _ rfl).2 (As := []) (rest := [.int p1]) ⟨hx, hb, hml, hown, hts⟩ (mgJ2_size l D A h x2_ _ e3 mc3 ms3 hmc3 hms3) (va_cwF 0 hts (lw_app (lw_fi q1068 q875 q877 q106) (lw_meth q879)) rfl rfl rfl (fw_5 hGr) (by decide +kernel) ⟨Nat.le_of_ble_eq_true rfl, Nat.le_of_ble_eq_true rfl⟩) (h_preV hGr hr hS ec3 (by decide) (q := (RJ2, TJ2, 3)) rfl _) rfl rfl hl.1 rfl (lv_room (Nat.le_of_ble_eq_true rfl)) dX1_chainAt_8 ⟨(bud hc mm3 hmc hms).1, (bud hc mm3 hmc hms).2⟩) hS (fun rr uu H locs hw hr hS => ?_)
  obtain rfl : u3 = uu := (congrArg Prod.snd hw).symm
  obtain rfl : r3 = rr := (congrArg Prod.fst hw).symm
  rcases bnx_s hF with ⟨r4, u4, e4, hF⟩ | ⟨q4, u4, e4, hF⟩
  rotate_left
  · obtain ⟨mc4, ms4, hmc4, hms4⟩ := up_of (moX1_requireIndex u3 p1 r3 _ e4)
    have hcx := cst_call hc hmc4 hms4
    have bx4 := bud_r hcx hF hmc hms
    refine h_xthrv rfl (vx_runS (As := [.int p1, .int r3]) (rest := []) ⟨hx, hb, hml, hown, hts⟩ (mgX1_requireIndex l hl0 D A u3 p1 r3 _ e4 mc4 ms4 hmc4 hms4) (va_cwS 2 hts (lw_S q1693 q1694 q101 q1695) rfl rfl rfl (by decide +kernel) ⟨Nat.le_of_ble_eq_true rfl, Nat.le_of_ble_eq_true rfl⟩) (h_preS hGr hr hS _) rfl rfl hl.1 rfl (lv_room (Nat.le_of_ble_eq_true rfl)) dX1_chainAt_13 ⟨bx4.1, bx4.2⟩) hS (fun E9 q9 u9 H locs ce9 e1 e2 e3 hr hS h1 h2 h3 => ?_)
    exact h_xpass hGr htb hlocks hF bx4 e1 e2 e3 hr hS h1 h2 h3
  have mm4 : hle u4 out.2 := (show Mo u4 _ from mo_gQ (fun x5_ => mo_gQ (fun x6_ => mo_gC (mo_bnd (moJ2_get u4 x6_ p1) hle_rf (fun r7 u7 m7 => mo_gC (mo_ret m7)))))) _ hF
  obtain ⟨mc4, ms4, hmc4, hms4⟩ := up_of (moX1_requireIndex u3 p1 r3 _ e4)
  replace hc := cst_call hc hmc4 hms4
  refine h_xretv rfl (vx_runS (As := [.int p1, .int r3]) (rest := []) ⟨hx, hb, hml, hown, hts⟩ (mgX1_requireIndex l hl0 D A u3 p1 r3 _ e4 mc4 ms4 hmc4 hms4) (va_cwS 2 hts (lw_S q1693 q1694 q101 q1695) rfl rfl rfl (by decide +kernel) ⟨Nat.le_of_ble_eq_true rfl, Nat.le_of_ble_eq_true rfl⟩) (h_preS hGr hr hS _) rfl rfl hl.1 rfl (lv_room (Nat.le_of_ble_eq_true rfl)) dX1_chainAt_13 ⟨(bud hc mm4 hmc hms).1, (bud hc mm4 hmc hms).2⟩) hS (fun H locs hr hS => ?_)
  refine lv_aload_n hx hb dX1_chainAt_16 rfl (lv_at hl 0 rfl) ?_
  obtain ⟨fs5, x5_, e5, f5, hF⟩ := gQ_s hF
  refine h_get (C := RX1) (T := TX1) (N := 7) hx hb hts in_X1 hown hGr hr e5 (by decide) rfl 0 (by decide) (hts _ q633) (fun _ h9 => h9) f5 dX1_chainAt_17 ?_
  obtain ⟨fs6, x6_, e6, f6, hF⟩ := gQ_s hF
  refine h_getN (C := RX2) (T := TX2) (N := 11) hx hb hts in_X2 hown hGr hr e6 (by decide) rfl 8 (by decide) (va_Nw.use rfl (hGr.nw q585 rfl)) (fun _ h9 => h9) f6 dX1_chainAt_20 ?_
  refine lv_iload_n hx hb dX1_chainAt_23 rfl (lv_at hl 1 rfl) ?_
  obtain ⟨fc7, ec7, hF⟩ := gC_s hF
  obtain ⟨r7, u7, e7, hF⟩ := bnd_s hF
  have mm7 : hle u7 out.2 := (show Mo u7 _ from mo_gC (mo_ret hle_rf)) _ hF
  obtain ⟨mc7, ms7, hmc7, hms7⟩ := up_of (moJ2_get u4 x6_ p1 _ e7)
  replace hc := cst_call hc hmc7 hms7
  refine h_callFr (va_runF (hGr.K.1 10 _ rfl).2 (As := [.int p1]) (rest := []) ⟨hx, hb, hml, hown, hts⟩ (mgJ2_get l D A u4 x6_ p1 _ e7 mc7 ms7 hmc7 hms7) (va_cwF 1 hts (lw_app (lw_fi q1276 q934 q936 q106) (lw_meth q938)) rfl rfl rfl (fw_7 hGr) (by decide +kernel) ⟨Nat.le_of_ble_eq_true rfl, Nat.le_of_ble_eq_true rfl⟩) (h_preV hGr hr hS ec7 (by decide) (q := (RJ2, TJ2, 3)) rfl _) rfl rfl hl.1 rfl (lv_room (Nat.le_of_ble_eq_true rfl)) dX1_chainAt_24 ⟨(bud hc mm7 hmc hms).1, (bud hc mm7 hmc hms).2⟩) hS (fun rr uu H locs hw hr hS => ?_)
  obtain rfl : u7 = uu := (congrArg Prod.snd hw).symm
  obtain rfl : r7 = rr := (congrArg Prod.fst hw).symm
  obtain ⟨fs8, e8, hF⟩ := gC_s hF
  refine h_cast hx hb hown (hts _ q1277) hGr hr e8 (by decide) (T := TX8) (N := 3) rfl dX1_chainAt_29 ?_
  have bz := bud_r hc hF hmc hms
  refine vx_ret ?_
  refine W.widen (k := mc) (n := ms) bz.1 bz.2 ?_
  exact W.aret (v := .ref r7) hx hb hret (Or.inl ⟨_, rfl⟩) (Or.inr ⟨_, rfl⟩) (fun t ht hWm => ⟨⟨u7, r7, rfl, trivial, Option.some.inj hF, h_end hGr hr hS ht hWm⟩, hS.F ht⟩) hS.2.2 dX1_chainAt_32

def GX1_roots_1 (R : Nat → Hp → Nat → Nat → Int32 → Int32 → Option (Int32 × Hp)) (n : Nat) (h : Hp) (b0 : Nat) (b1 : Nat) (x2 : Int32) (x3 : Int32) : Option (Int32 × Hp) := gQ h b0 1 0 (fun x1_ => gQ h x1_ 2 0 (fun x2_ => gI h x2_ 3 0 (fun x3_ => if x3_ ≤ x3 then some (x2, h) else gQ h b0 1 0 (fun x5_ => gC h x5_ 2 (bnd (GX2_polynomial n h x5_ b1 x3) (fun r6 u6 => if r6 = 0 then R 1 u6 b0 b1 (x2 + 1) (x3 + 1) else R 1 u6 b0 b1 (x2 + 0) (x3 + 1)))))))
def GX1_roots_r : Nat → Nat → Hp → Nat → Nat → Int32 → Int32 → Option (Int32 × Hp)
  | 0 => fun _ _ _ _ _ _ => none
  | n + 1 => fun k => match k with  | _ => GX1_roots_1 (GX1_roots_r n) n
def GX1_roots_0 (R : Nat → Hp → Nat → Nat → Int32 → Int32 → Option (Int32 × Hp)) (n : Nat) (h : Hp) (a0 : Nat) (a1 : Nat) : Option (Int32 × Hp) := R 1 h a0 a1 (0 : Int32) (0 : Int32)
def GX1_roots (n : Nat) (h : Hp) (a0 : Nat) (a1 : Nat) : Option (Int32 × Hp) := GX1_roots_0 (GX1_roots_r n) n h a0 a1
theorem moX1_roots_r (n : Nat) : (∀ (h : Hp) (b0 : Nat) (b1 : Nat) (x2 : Int32) (x3 : Int32), Mo h (GX1_roots_r n 1 h b0 b1 x2 x3)) := by
  induction n with
  | zero => exact (fun _ _ _ _ _ => mo_no)
  | succ n ih =>
    have ml1 := ih
    exact (fun h b0 b1 x2 x3 => show Mo h (GX1_roots_1 (GX1_roots_r n) n h b0 b1 x2 x3) from by unfold GX1_roots_1; exact mo_gQ (fun x1_ => mo_gQ (fun x2_ => mo_gI (fun x3_ => mo_ite (mo_ret hle_rf) (mo_gQ (fun x5_ => mo_gC (mo_bnd (moX2_polynomial n h x5_ b1 x3) hle_rf (fun r6 u6 m6 => mo_ite (mo_tr m6 (ml1 u6 b0 b1 (x2 + 1) (x3 + 1))) (mo_tr m6 (ml1 u6 b0 b1 (x2 + 0) (x3 + 1)))))))))))
theorem moX1_roots (n : Nat) (h : Hp) (a0 : Nat) (a1 : Nat) : Mo h (GX1_roots n h a0 a1) := by
  have ml1 := moX1_roots_r n
  unfold GX1_roots GX1_roots_0
  exact mo_tr hle_rf (ml1 h a0 a1 (0 : Int32) (0 : Int32))
set_option maxHeartbeats 4000000 in
set_option maxRecDepth 100000 in
theorem mgX1_roots (l : Launch) (D : HD) (A : Nat → Prop) (h : Hp) (n : Nat) (a0 : Nat) (a1 : Nat) (out : Int32 × Hp) (hF : GX1_roots n h a0 a1 = some out) (mc ms : Nat) (hmc : hCc out.2 = hCc h + mc) (hms : hSl out.2 = hSl h + ms) : Met l yX1_roots (ws_ yX1_roots cX1_roots 4 (some .int)) ({ frames := 6, cells := mc, slots := ms, locals := 135 }) (va_Pc [.ref a0, .ref a1] (hW D A h)) (va_Qi (fun r u => (r, u) = out) (hW D A) A) mc ms A := by
  refine Met.ofW (cc := cX1_roots) (maxL := 4) (ret := (some .int)) (by decide +kernel) rfl ?_
  intro p e s m args below meth c s₁ B hml hv
  obtain ⟨rfl, hr, hGr⟩ := hv
  have hx := B.exec
  have hb := B.bytes
  have hret := B.returns
  have hts := atoms_spec (ws := (ws_ yX1_roots cX1_roots 4 (some .int))) B.pre
  have hts : ∀ w ∈ lw_all, w.before _ s = true := fun w h => hts w (List.mem_cons_of_mem _ h)
  have hown : s.vm.findClass RX1 = some m.cls := findClass_of_methodNamed B.named
  have hlocks := B.notSynchronized
  have hS : va_S A s.heap s.heap [] := va_S.rf
  have hc : cst h 0 0 h := cst_0
  have hl := lv_entry ([.ref a0, .ref a1]) (n := 4) (Nat.le_of_ble_eq_true rfl)
  rw [lg_entry_eq]
  generalize (lg_sl ([.ref a0, .ref a1]) ++ List.replicate (4 - (lg_sl ([.ref a0, .ref a1])).length) Slot.unset).toArray = ls at hl ⊢
  have hl : lv_has ls 4 [(0, .ref a0), (1, .ref a1)] := hl
  obtain ⟨h0, eh0⟩ : ∃ z, z = h := ⟨_, rfl⟩
  rw [← eh0] at hmc hms
  have loop : ∀ n : Nat, (∀ (h : Hp) (b0 : Nat) (b1 : Nat) (x2 : Int32) (x3 : Int32), GX1_roots_r n 1 h b0 b1 x2 x3 = some out → ∀ (H : Heap) (locs : List Loc) (cells slots : Nat), cst h0 cells slots h → hR D A h H → va_S A s.heap H locs → ∀ ls : Array Slot, lv_has ls 4 [(0, .ref b0), (1, .ref b1), (2, .int x2), (3, .int x3)] → W p l e (headSpec (ws_ yX1_roots cX1_roots 4 (some .int)) ({ frames := 6, cells := mc, slots := ms, locals := 135 })).room s m ([.ref a0, .ref a1] : List Value).toArray below meth c H locs cells slots (MQ below (va_Qi (fun r u => (r, u) = out) (hW D A) A) ([.ref a0, .ref a1] : List Value).toArray s mc ms A) (F0 m 4 ls [])) := by
    intro n
    induction n with
    | zero => exact (fun _ _ _ _ _ h => nomatch h)
    | succ n ih =>
      have lp1 := ih
      have ml1 := moX1_roots_r n
      intro h b0 b1 x2 x3 hF H locs cells slots hc hr hS ls hl
      replace hF : GX1_roots_1 (GX1_roots_r n) n h b0 b1 x2 x3 = some out := hF
      unfold GX1_roots_1 at hF
      refine lv_iload_n hx hb dX1_roots_4 rfl (lv_at hl 3 rfl) ?_
      refine lv_aload_n hx hb dX1_roots_5 rfl (lv_at hl 0 rfl) ?_
      obtain ⟨fs1, x1_, e1, f1, hF⟩ := gQ_s hF
      refine h_get (C := RX1) (T := TX1) (N := 7) hx hb hts in_X1 hown hGr hr e1 (by decide) rfl 0 (by decide) (hts _ q633) (fun _ h9 => h9) f1 dX1_roots_6 ?_
      obtain ⟨fs2, x2_, e2, f2, hF⟩ := gQ_s hF
      refine h_getN (C := RX2) (T := TX2) (N := 11) hx hb hts in_X2 hown hGr hr e2 (by decide) rfl 0 (by decide) (va_Nw.use rfl (hGr.nw q564 rfl)) (fun _ h9 => h9) f2 dX1_roots_9 ?_
      obtain ⟨fs3, x3_, e3, f3, hF⟩ := gI_s hF
      refine h_getN (C := RX3) (T := TX3) (N := 2) hx hb hts in_X3 hown hGr hr e3 (by decide) rfl 0 (by decide) (va_Nw.use rfl (hGr.nw q168 rfl)) (fun _ h9 => h9) f3 dX1_roots_12 ?_
      refine lv_icmp_ge (tgt := 44) hx hb dX1_roots_15 (by decide) (fun c4 => ?_) (fun c4 => ?_)
      · replace hF := it_t c4 hF
        refine lv_iload_n hx hb dX1_roots_44 rfl (lv_at hl 2 rfl) ?_
        have bz := bud_r hc hF hmc hms
        refine W.widen (k := mc) (n := ms) bz.1 bz.2 ?_
        exact W.iret (v := x2) hx hb hret (fun t ht hWm => ⟨⟨x2, h, rfl, Option.some.inj hF, h_end hGr hr hS ht hWm⟩, hS.F ht⟩) hS.2.2 dX1_roots_45
      · replace hF := it_f c4 hF
        refine lv_iload_n hx hb dX1_roots_18 rfl (lv_at hl 2 rfl) ?_
        refine lv_aload_n hx hb dX1_roots_19 rfl (lv_at hl 0 rfl) ?_
        obtain ⟨fs5, x5_, e5, f5, hF⟩ := gQ_s hF
        refine h_get (C := RX1) (T := TX1) (N := 7) hx hb hts in_X1 hown hGr hr e5 (by decide) rfl 0 (by decide) (hts _ q633) (fun _ h9 => h9) f5 dX1_roots_20 ?_
        refine lv_aload_n hx hb dX1_roots_23 rfl (lv_at hl 1 rfl) ?_
        refine lv_iload_n hx hb dX1_roots_24 rfl (lv_at hl 3 rfl) ?_
        obtain ⟨fc6, ec6, hF⟩ := gC_s hF
        obtain ⟨r6, u6, e6, hF⟩ := bnd_s hF
        have mm6 : hle u6 out.2 := (show Mo u6 _ from mo_ite (mo_tr hle_rf (ml1 u6 b0 b1 (x2 + 1) (x3 + 1))) (mo_tr hle_rf (ml1 u6 b0 b1 (x2 + 0) (x3 + 1)))) _ hF
        obtain ⟨mc6, ms6, hmc6, hms6⟩ := up_of (moX2_polynomial n h x5_ b1 x3 _ e6)
        replace hc := cst_call hc hmc6 hms6
        refine h_calli (va_runV (As := [.ref b1, .int x3]) (rest := [.int x2]) ⟨hx, hb, hml, hown, hts⟩ (mgX2_polynomial l D A h n x5_ b1 x3 _ e6 mc6 ms6 hmc6 hms6) (cwV 2 hts (lw_V q1785 q1786 q1787 q102 q1788) rfl rfl rfl (by decide +kernel) ⟨Nat.le_of_ble_eq_true rfl, Nat.le_of_ble_eq_true rfl⟩) (h_preV hGr hr hS ec6 (by decide) (q := (RX2, TX2, 11)) rfl _) rfl rfl hl.1 rfl (lv_room (Nat.le_of_ble_eq_true rfl)) dX1_roots_25 ⟨(bud hc mm6 hmc hms).1, (bud hc mm6 hmc hms).2⟩) hS (fun rr uu H locs hw hr hS => ?_)
        obtain rfl : u6 = uu := (congrArg Prod.snd hw).symm
        obtain rfl : r6 = rr := (congrArg Prod.fst hw).symm
        refine lv_if_ne (tgt := 35) hx hb dX1_roots_28 (by decide) (fun c7 => ?_) (fun c7 => ?_)
        · replace hF := it_f c7 hF
          refine lv_iconst (v := 0) hx hb dX1_roots_35 (by decide) ?_
          refine lv_iadd hx hb dX1_roots_36 ?_
          refine lv_istore_n (lv' := [(2, .int (x2 + 0)), (0, .ref b0), (1, .ref b1), (3, .int x3)]) hx hb dX1_roots_37 rfl hl (by decide) rfl (fun ls hl => ?_)
          refine lv_iinc (v := (x3 + 1)) (lv' := [(3, .int (x3 + 1)), (2, .int (x2 + 0)), (0, .ref b0), (1, .ref b1)]) hx hb dX1_roots_38 hl (k := 3) rfl rfl (by decide) rfl (fun ls hl => ?_)
          refine lv_goto (tgt := 4) hx hb dX1_roots_41 (by decide) ?_
          exact lp1 u6 b0 b1 (x2 + 0) (x3 + 1) hF _ _ _ _ hc hr hS ls (lv_sub hl [2, 3, 1, 0] rfl)
        · replace hF := it_t c7 hF
          refine lv_iconst (v := 1) hx hb dX1_roots_31 (by decide) ?_
          refine lv_goto (tgt := 36) hx hb dX1_roots_32 (by decide) ?_
          refine lv_iadd hx hb dX1_roots_36 ?_
          refine lv_istore_n (lv' := [(2, .int (x2 + 1)), (0, .ref b0), (1, .ref b1), (3, .int x3)]) hx hb dX1_roots_37 rfl hl (by decide) rfl (fun ls hl => ?_)
          refine lv_iinc (v := (x3 + 1)) (lv' := [(3, .int (x3 + 1)), (2, .int (x2 + 1)), (0, .ref b0), (1, .ref b1)]) hx hb dX1_roots_38 hl (k := 3) rfl rfl (by decide) rfl (fun ls hl => ?_)
          refine lv_goto (tgt := 4) hx hb dX1_roots_41 (by decide) ?_
          exact lp1 u6 b0 b1 (x2 + 1) (x3 + 1) hF _ _ _ _ hc hr hS ls (lv_sub hl [2, 3, 1, 0] rfl)
  have lp1 := loop n
  have ml1 := moX1_roots_r n
  have hc : cst h0 0 0 h := by rw [eh0]; exact cst_0
  unfold GX1_roots GX1_roots_0 at hF
  refine lv_iconst (v := 0) hx hb dX1_roots_0 (by decide) ?_
  refine lv_istore_n (lv' := [(2, .int 0), (0, .ref a0), (1, .ref a1)]) hx hb dX1_roots_1 rfl hl (by decide) rfl (fun ls hl => ?_)
  refine lv_iconst (v := 0) hx hb dX1_roots_2 (by decide) ?_
  refine lv_istore_n (lv' := [(3, .int 0), (2, .int 0), (0, .ref a0), (1, .ref a1)]) hx hb dX1_roots_3 rfl hl (by decide) rfl (fun ls hl => ?_)
  exact lp1 h a0 a1 (0 : Int32) (0 : Int32) hF _ _ _ _ hc hr hS ls (lv_sub hl [2, 3, 1, 0] rfl)

def GX1_chain (n : Nat) (h : Hp) (a0 : Nat) (p1 : Int32) (p2 : Int32) : Option ((Int32 ⊕ Xq) × Hp) := gC h a0 1 (bnx (GX1_chainAt h a0 p1) (fun r1 u1 => if p2 = 0 then gC u1 r1 7 (bnd (GX8_many u1 r1) (fun r3 u3 => some (.inl r3, u3))) else if p2 = 1 then gC u1 r1 7 (bnd (GX8_many u1 r1) (fun r5 u5 => if r5 = 0 then some (.inl ((-1) : Int32), u5) else gC u5 r1 7 (bnd (GX8_first u5 r1) (fun r7 u7 => some (.inl r7, u7))))) else if p2 = 2 then gC u1 r1 7 (bnd (GX8_cause u1 r1) (fun r9 u9 => some (.inl r9, u9))) else if p2 = 3 then gC u1 a0 1 (bnd (GX1_roots n u1 a0 r1) (fun r11 u11 => some (.inl r11, u11))) else some (.inr (1, 0), hX u1)))
theorem moX1_chain (n : Nat) (h : Hp) (a0 : Nat) (p1 : Int32) (p2 : Int32) : Mo h (GX1_chain n h a0 p1 p2) := by
  unfold GX1_chain
  exact mo_gC (mo_bnx (moX1_chainAt h a0 p1) hle_rf (fun r1 u1 m1 => mo_ite (mo_gC (mo_bnd (moX8_many u1 r1) m1 (fun r3 u3 m3 => mo_ret m3))) (mo_ite (mo_gC (mo_bnd (moX8_many u1 r1) m1 (fun r5 u5 m5 => mo_ite (mo_ret m5) (mo_gC (mo_bnd (moX8_first u5 r1) m5 (fun r7 u7 m7 => mo_ret m7)))))) (mo_ite (mo_gC (mo_bnd (moX8_cause u1 r1) m1 (fun r9 u9 m9 => mo_ret m9))) (mo_ite (mo_gC (mo_bnd (moX1_roots n u1 a0 r1) m1 (fun r11 u11 m11 => mo_ret m11))) (mo_ret (hle_tr m1 hle_X)))))))
set_option maxHeartbeats 4000000 in
set_option maxRecDepth 100000 in
theorem mgX1_chain (l : Launch) (hl0 : l.stackTraces = false) (D : HD) (A : Nat → Prop) (h : Hp) (n : Nat) (a0 : Nat) (p1 : Int32) (p2 : Int32) (out : (Int32 ⊕ Xq) × Hp) (hF : GX1_chain n h a0 p1 p2 = some out) (mc ms : Nat) (hmc : hCc out.2 = hCc h + mc) (hms : hSl out.2 = hSl h + ms) : vx_Met l yX1_chain (ws_ yX1_chain cX1_chain 4 (some .int)) ({ frames := 8, cells := mc, slots := ms, locals := 158 }) (va_Pc [.ref a0, .int p1, .int p2] (hW D A h)) (va_Qi (fun r u => ((.inl r : Int32 ⊕ Xq), u) = out) (hW D A) A) (xC D A out) mc ms A := by
  refine vx_ofW (cc := cX1_chain) (maxL := 4) (ret := (some .int)) (by decide +kernel) rfl ?_
  intro p e s m args below meth c s₁ B hml htb hv
  obtain ⟨rfl, hr, hGr⟩ := hv
  have hx := B.exec
  have hb := B.bytes
  have hret := B.returns
  have hts := atoms_spec (ws := (ws_ yX1_chain cX1_chain 4 (some .int))) B.pre
  have hts : ∀ w ∈ lw_all, w.before _ s = true := fun w h => hts w (List.mem_cons_of_mem _ h)
  have hown : s.vm.findClass RX1 = some m.cls := findClass_of_methodNamed B.named
  have hlocks := B.notSynchronized
  have hS : va_S A s.heap s.heap [] := va_S.rf
  have hc : cst h 0 0 h := cst_0
  have hl := lv_entry ([.ref a0, .int p1, .int p2]) (n := 4) (Nat.le_of_ble_eq_true rfl)
  rw [lg_entry_eq]
  generalize (lg_sl ([.ref a0, .int p1, .int p2]) ++ List.replicate (4 - (lg_sl ([.ref a0, .int p1, .int p2])).length) Slot.unset).toArray = ls at hl ⊢
  have hl : lv_has ls 4 [(0, .ref a0), (1, .int p1), (2, .int p2)] := hl
  unfold GX1_chain at hF
  refine lv_aload_n hx hb dX1_chain_0 rfl (lv_at hl 0 rfl) ?_
  refine lv_iload_n hx hb dX1_chain_1 rfl (lv_at hl 1 rfl) ?_
  obtain ⟨fc1, ec1, hF⟩ := gC_s hF
  rcases bnx_s hF with ⟨r1, u1, e1, hF⟩ | ⟨q1, u1, e1, hF⟩
  rotate_left
  · obtain ⟨mc1, ms1, hmc1, hms1⟩ := up_of (moX1_chainAt h a0 p1 _ e1)
    have hcx := cst_call hc hmc1 hms1
    have bx1 := bud_r hcx hF hmc hms
    refine h_xthrr rfl (vx_runV (As := [.int p1]) (rest := []) ⟨hx, hb, hml, hown, hts⟩ (mgX1_chainAt l hl0 D A h a0 p1 _ e1 mc1 ms1 hmc1 hms1) (cwV 1 hts (lw_V q1773 q1775 qs40 q101 q1776) rfl rfl rfl (by decide +kernel) ⟨Nat.le_of_ble_eq_true rfl, Nat.le_of_ble_eq_true rfl⟩) (h_preV hGr hr hS ec1 (by decide) (q := (RX1, TX1, 7)) rfl _) rfl rfl hl.1 rfl (lv_room (Nat.le_of_ble_eq_true rfl)) dX1_chain_2 ⟨bx1.1, bx1.2⟩) hS (fun E9 q9 u9 H locs ce9 e1 e2 e3 hr hS h1 h2 h3 => ?_)
    exact h_xpass hGr htb hlocks hF bx1 e1 e2 e3 hr hS h1 h2 h3
  have mm1 : hle u1 out.2 := (show Mo u1 _ from mo_ite (mo_gC (mo_bnd (moX8_many u1 r1) hle_rf (fun r3 u3 m3 => mo_ret m3))) (mo_ite (mo_gC (mo_bnd (moX8_many u1 r1) hle_rf (fun r5 u5 m5 => mo_ite (mo_ret m5) (mo_gC (mo_bnd (moX8_first u5 r1) m5 (fun r7 u7 m7 => mo_ret m7)))))) (mo_ite (mo_gC (mo_bnd (moX8_cause u1 r1) hle_rf (fun r9 u9 m9 => mo_ret m9))) (mo_ite (mo_gC (mo_bnd (moX1_roots n u1 a0 r1) hle_rf (fun r11 u11 m11 => mo_ret m11))) (mo_ret (hle_tr hle_rf hle_X)))))) _ hF
  obtain ⟨mc1, ms1, hmc1, hms1⟩ := up_of (moX1_chainAt h a0 p1 _ e1)
  replace hc := cst_call hc hmc1 hms1
  refine h_xretr rfl (vx_runV (As := [.int p1]) (rest := []) ⟨hx, hb, hml, hown, hts⟩ (mgX1_chainAt l hl0 D A h a0 p1 _ e1 mc1 ms1 hmc1 hms1) (cwV 1 hts (lw_V q1773 q1775 qs40 q101 q1776) rfl rfl rfl (by decide +kernel) ⟨Nat.le_of_ble_eq_true rfl, Nat.le_of_ble_eq_true rfl⟩) (h_preV hGr hr hS ec1 (by decide) (q := (RX1, TX1, 7)) rfl _) rfl rfl hl.1 rfl (lv_room (Nat.le_of_ble_eq_true rfl)) dX1_chain_2 ⟨(bud hc mm1 hmc hms).1, (bud hc mm1 hmc hms).2⟩) hS (fun H locs hr hS => ?_)
  refine lv_astore_n (lv' := [(3, .ref r1), (0, .ref a0), (1, .int p1), (2, .int p2)]) hx hb dX1_chain_5 rfl hl (by decide) rfl (fun ls hl => ?_)
  refine lv_iload_n hx hb dX1_chain_6 rfl (lv_at hl 3 rfl) ?_
  rcases Decidable.em (p2 = 0) with c2 | c2
  · replace hF := it_t c2 hF
    refine lv_tableIn (off := 29) (tgt := 36) hx hb dX1_chain_7 (by rw [c2]; decide) (by rw [c2]; decide) (by rw [c2]; rfl) (by decide) ?_
    refine lv_aload_n hx hb dX1_chain_36 rfl (lv_at hl 0 rfl) ?_
    obtain ⟨fc3, ec3, hF⟩ := gC_s hF
    obtain ⟨r3, u3, e3, hF⟩ := bnd_s hF
    have mm3 : hle u3 out.2 := (show Mo u3 _ from mo_ret hle_rf) _ hF
    obtain ⟨mc3, ms3, hmc3, hms3⟩ := up_of (moX8_many u1 r1 _ e3)
    replace hc := cst_call hc hmc3 hms3
    refine h_calli (va_runV (As := []) (rest := []) ⟨hx, hb, hml, hown, hts⟩ (mgX8_many l D A u1 r1 _ e3 mc3 ms3 hmc3 hms3) (cwV 0 hts (lw_V q1298 q1048 q1049 q139 q1050) rfl rfl rfl (by decide +kernel) ⟨Nat.le_of_ble_eq_true rfl, Nat.le_of_ble_eq_true rfl⟩) (h_preV hGr hr hS ec3 (by decide) (q := (RX8, TX8, 3)) rfl _) rfl rfl hl.1 rfl (lv_room (Nat.le_of_ble_eq_true rfl)) dX1_chain_37 ⟨(bud hc mm3 hmc hms).1, (bud hc mm3 hmc hms).2⟩) hS (fun rr uu H locs hw hr hS => ?_)
    obtain rfl : u3 = uu := (congrArg Prod.snd hw).symm
    obtain rfl : r3 = rr := (congrArg Prod.fst hw).symm
    have bz := bud_r hc hF hmc hms
    refine vx_ret ?_
    refine W.widen (k := mc) (n := ms) bz.1 bz.2 ?_
    exact W.iret (v := r3) hx hb hret (fun t ht hWm => ⟨⟨r3, u3, rfl, Option.some.inj hF, h_end hGr hr hS ht hWm⟩, hS.F ht⟩) hS.2.2 dX1_chain_40
  · replace hF := it_f c2 hF
    rcases Decidable.em (p2 = 1) with c4 | c4
    · replace hF := it_t c4 hF
      refine lv_tableIn (off := 34) (tgt := 41) hx hb dX1_chain_7 (by rw [c4]; decide) (by rw [c4]; decide) (by rw [c4]; rfl) (by decide) ?_
      refine lv_aload_n hx hb dX1_chain_41 rfl (lv_at hl 0 rfl) ?_
      obtain ⟨fc5, ec5, hF⟩ := gC_s hF
      obtain ⟨r5, u5, e5, hF⟩ := bnd_s hF
      have mm5 : hle u5 out.2 := (show Mo u5 _ from mo_ite (mo_ret hle_rf) (mo_gC (mo_bnd (moX8_first u5 r1) hle_rf (fun r7 u7 m7 => mo_ret m7)))) _ hF
      obtain ⟨mc5, ms5, hmc5, hms5⟩ := up_of (moX8_many u1 r1 _ e5)
      replace hc := cst_call hc hmc5 hms5
      refine h_calli (va_runV (As := []) (rest := []) ⟨hx, hb, hml, hown, hts⟩ (mgX8_many l D A u1 r1 _ e5 mc5 ms5 hmc5 hms5) (cwV 0 hts (lw_V q1298 q1048 q1049 q139 q1050) rfl rfl rfl (by decide +kernel) ⟨Nat.le_of_ble_eq_true rfl, Nat.le_of_ble_eq_true rfl⟩) (h_preV hGr hr hS ec5 (by decide) (q := (RX8, TX8, 3)) rfl _) rfl rfl hl.1 rfl (lv_room (Nat.le_of_ble_eq_true rfl)) dX1_chain_42 ⟨(bud hc mm5 hmc hms).1, (bud hc mm5 hmc hms).2⟩) hS (fun rr uu H locs hw hr hS => ?_)
      obtain rfl : u5 = uu := (congrArg Prod.snd hw).symm
      obtain rfl : r5 = rr := (congrArg Prod.fst hw).symm
      refine lv_if_ne (tgt := 52) hx hb dX1_chain_45 (by decide) (fun c6 => ?_) (fun c6 => ?_)
      · replace hF := it_f c6 hF
        refine lv_aload_n hx hb dX1_chain_52 rfl (lv_at hl 0 rfl) ?_
        obtain ⟨fc7, ec7, hF⟩ := gC_s hF
        obtain ⟨r7, u7, e7, hF⟩ := bnd_s hF
        have mm7 : hle u7 out.2 := (show Mo u7 _ from mo_ret hle_rf) _ hF
        obtain ⟨mc7, ms7, hmc7, hms7⟩ := up_of (moX8_first u5 r1 _ e7)
        replace hc := cst_call hc hmc7 hms7
        refine h_calli (va_runV (As := []) (rest := []) ⟨hx, hb, hml, hown, hts⟩ (mgX8_first l D A u5 r1 _ e7 mc7 ms7 hmc7 hms7) (cwV 0 hts (lw_V q1777 q1778 q1779 q139 q1780) rfl rfl rfl (by decide +kernel) ⟨Nat.le_of_ble_eq_true rfl, Nat.le_of_ble_eq_true rfl⟩) (h_preV hGr hr hS ec7 (by decide) (q := (RX8, TX8, 3)) rfl _) rfl rfl hl.1 rfl (lv_room (Nat.le_of_ble_eq_true rfl)) dX1_chain_53 ⟨(bud hc mm7 hmc hms).1, (bud hc mm7 hmc hms).2⟩) hS (fun rr uu H locs hw hr hS => ?_)
        obtain rfl : u7 = uu := (congrArg Prod.snd hw).symm
        obtain rfl : r7 = rr := (congrArg Prod.fst hw).symm
        have bz := bud_r hc hF hmc hms
        refine vx_ret ?_
        refine W.widen (k := mc) (n := ms) bz.1 bz.2 ?_
        exact W.iret (v := r7) hx hb hret (fun t ht hWm => ⟨⟨r7, u7, rfl, Option.some.inj hF, h_end hGr hr hS ht hWm⟩, hS.F ht⟩) hS.2.2 dX1_chain_56
      · replace hF := it_t c6 hF
        refine lv_iconst (v := (-1)) hx hb dX1_chain_48 (by decide) ?_
        refine lv_goto (tgt := 56) hx hb dX1_chain_49 (by decide) ?_
        have bz := bud_r hc hF hmc hms
        refine vx_ret ?_
        refine W.widen (k := mc) (n := ms) bz.1 bz.2 ?_
        exact W.iret (v := ((-1) : Int32)) hx hb hret (fun t ht hWm => ⟨⟨((-1) : Int32), u5, rfl, Option.some.inj hF, h_end hGr hr hS ht hWm⟩, hS.F ht⟩) hS.2.2 dX1_chain_56
    · replace hF := it_f c4 hF
      rcases Decidable.em (p2 = 2) with c8 | c8
      · replace hF := it_t c8 hF
        refine lv_tableIn (off := 50) (tgt := 57) hx hb dX1_chain_7 (by rw [c8]; decide) (by rw [c8]; decide) (by rw [c8]; rfl) (by decide) ?_
        refine lv_aload_n hx hb dX1_chain_57 rfl (lv_at hl 0 rfl) ?_
        obtain ⟨fc9, ec9, hF⟩ := gC_s hF
        obtain ⟨r9, u9, e9, hF⟩ := bnd_s hF
        have mm9 : hle u9 out.2 := (show Mo u9 _ from mo_ret hle_rf) _ hF
        obtain ⟨mc9, ms9, hmc9, hms9⟩ := up_of (moX8_cause u1 r1 _ e9)
        replace hc := cst_call hc hmc9 hms9
        refine h_calli (va_runV (As := []) (rest := []) ⟨hx, hb, hml, hown, hts⟩ (mgX8_cause l D A u1 r1 _ e9 mc9 ms9 hmc9 hms9) (cwV 0 hts (lw_V q1301 q997 q998 q139 q999) rfl rfl rfl (by decide +kernel) ⟨Nat.le_of_ble_eq_true rfl, Nat.le_of_ble_eq_true rfl⟩) (h_preV hGr hr hS ec9 (by decide) (q := (RX8, TX8, 3)) rfl _) rfl rfl hl.1 rfl (lv_room (Nat.le_of_ble_eq_true rfl)) dX1_chain_58 ⟨(bud hc mm9 hmc hms).1, (bud hc mm9 hmc hms).2⟩) hS (fun rr uu H locs hw hr hS => ?_)
        obtain rfl : u9 = uu := (congrArg Prod.snd hw).symm
        obtain rfl : r9 = rr := (congrArg Prod.fst hw).symm
        have bz := bud_r hc hF hmc hms
        refine vx_ret ?_
        refine W.widen (k := mc) (n := ms) bz.1 bz.2 ?_
        exact W.iret (v := r9) hx hb hret (fun t ht hWm => ⟨⟨r9, u9, rfl, Option.some.inj hF, h_end hGr hr hS ht hWm⟩, hS.F ht⟩) hS.2.2 dX1_chain_61
      · replace hF := it_f c8 hF
        rcases Decidable.em (p2 = 3) with c10 | c10
        · replace hF := it_t c10 hF
          refine lv_tableIn (off := 55) (tgt := 62) hx hb dX1_chain_7 (by rw [c10]; decide) (by rw [c10]; decide) (by rw [c10]; rfl) (by decide) ?_
          refine lv_aload_n hx hb dX1_chain_62 rfl (lv_at hl 1 rfl) ?_
          refine lv_aload_n hx hb dX1_chain_63 rfl (lv_at hl 0 rfl) ?_
          obtain ⟨fc11, ec11, hF⟩ := gC_s hF
          obtain ⟨r11, u11, e11, hF⟩ := bnd_s hF
          have mm11 : hle u11 out.2 := (show Mo u11 _ from mo_ret hle_rf) _ hF
          obtain ⟨mc11, ms11, hmc11, hms11⟩ := up_of (moX1_roots n u1 a0 r1 _ e11)
          replace hc := cst_call hc hmc11 hms11
          refine h_calli (va_runV (As := [.ref r1]) (rest := []) ⟨hx, hb, hml, hown, hts⟩ (mgX1_roots l D A u1 n a0 r1 _ e11 mc11 ms11 hmc11 hms11) (cwV 1 hts (lw_V q1781 q1783 qs41 q101 q1784) rfl rfl rfl (by decide +kernel) ⟨Nat.le_of_ble_eq_true rfl, Nat.le_of_ble_eq_true rfl⟩) (h_preV hGr hr hS ec11 (by decide) (q := (RX1, TX1, 7)) rfl _) rfl rfl hl.1 rfl (lv_room (Nat.le_of_ble_eq_true rfl)) dX1_chain_64 ⟨(bud hc mm11 hmc hms).1, (bud hc mm11 hmc hms).2⟩) hS (fun rr uu H locs hw hr hS => ?_)
          obtain rfl : u11 = uu := (congrArg Prod.snd hw).symm
          obtain rfl : r11 = rr := (congrArg Prod.fst hw).symm
          have bz := bud_r hc hF hmc hms
          refine vx_ret ?_
          refine W.widen (k := mc) (n := ms) bz.1 bz.2 ?_
          exact W.iret (v := r11) hx hb hret (fun t ht hWm => ⟨⟨r11, u11, rfl, Option.some.inj hF, h_end hGr hr hS ht hWm⟩, hS.F ht⟩) hS.2.2 dX1_chain_67
        · replace hF := it_f c10 hF
          refine lv_tableOut (tgt := 68) hx hb dX1_chain_7 (tb_out4 c2 c4 c8 c10) (by decide) ?_
          exact h_throw (k := 1) (by decide) hx hb hl0 (by rw [hml]; exact hl.1.symm) hown (by decide +kernel) (hts _ q1426) (hts _ q110) (h_xat1 hts hGr) h_xgd1 hGr hr hS htb hlocks dX1_chain_68 dX1_chain_71 dX1_chain_72 dX1_chain_75 hc hF hmc hms (Nat.le_of_ble_eq_true rfl) (Nat.le_of_ble_eq_true rfl) (Nat.le_refl _) (Nat.le_refl _)

def GX1_polynomial (n : Nat) (h : Hp) (a0 : Nat) (p1 : Int32) (p2 : Int32) : Option ((Int32 ⊕ Xq) × Hp) := gC h a0 1 (bnx (GX1_chainAt h a0 p1) (fun r1 u1 => gC u1 a0 1 (bnx (GX1_requireNumber u1 a0 p2) (fun r2 u2 => gQ u2 a0 1 0 (fun x3_ => gC u2 x3_ 2 (bnd (GX2_polynomial n u2 x3_ r1 p2) (fun r4 u4 => some (.inl r4, u4))))))))
theorem moX1_polynomial (n : Nat) (h : Hp) (a0 : Nat) (p1 : Int32) (p2 : Int32) : Mo h (GX1_polynomial n h a0 p1 p2) := by
  unfold GX1_polynomial
  exact mo_gC (mo_bnx (moX1_chainAt h a0 p1) hle_rf (fun r1 u1 m1 => mo_gC (mo_bnx (moX1_requireNumber u1 a0 p2) m1 (fun r2 u2 m2 => mo_gQ (fun x3_ => mo_gC (mo_bnd (moX2_polynomial n u2 x3_ r1 p2) m2 (fun r4 u4 m4 => mo_ret m4)))))))
set_option maxHeartbeats 4000000 in
set_option maxRecDepth 100000 in
theorem mgX1_polynomial (l : Launch) (hl0 : l.stackTraces = false) (D : HD) (A : Nat → Prop) (h : Hp) (n : Nat) (a0 : Nat) (p1 : Int32) (p2 : Int32) (out : (Int32 ⊕ Xq) × Hp) (hF : GX1_polynomial n h a0 p1 p2 = some out) (mc ms : Nat) (hmc : hCc out.2 = hCc h + mc) (hms : hSl out.2 = hSl h + ms) : vx_Met l yX1_polynomial (ws_ yX1_polynomial cX1_polynomial 4 (some .int)) ({ frames := 8, cells := mc, slots := ms, locals := 142 }) (va_Pc [.ref a0, .int p1, .int p2] (hW D A h)) (va_Qi (fun r u => ((.inl r : Int32 ⊕ Xq), u) = out) (hW D A) A) (xC D A out) mc ms A := by
  refine vx_ofW (cc := cX1_polynomial) (maxL := 4) (ret := (some .int)) (by decide +kernel) rfl ?_
  intro p e s m args below meth c s₁ B hml htb hv
  obtain ⟨rfl, hr, hGr⟩ := hv
  have hx := B.exec
  have hb := B.bytes
  have hret := B.returns
  have hts := atoms_spec (ws := (ws_ yX1_polynomial cX1_polynomial 4 (some .int))) B.pre
  have hts : ∀ w ∈ lw_all, w.before _ s = true := fun w h => hts w (List.mem_cons_of_mem _ h)
  have hown : s.vm.findClass RX1 = some m.cls := findClass_of_methodNamed B.named
  have hlocks := B.notSynchronized
  have hS : va_S A s.heap s.heap [] := va_S.rf
  have hc : cst h 0 0 h := cst_0
  have hl := lv_entry ([.ref a0, .int p1, .int p2]) (n := 4) (Nat.le_of_ble_eq_true rfl)
  rw [lg_entry_eq]
  generalize (lg_sl ([.ref a0, .int p1, .int p2]) ++ List.replicate (4 - (lg_sl ([.ref a0, .int p1, .int p2])).length) Slot.unset).toArray = ls at hl ⊢
  have hl : lv_has ls 4 [(0, .ref a0), (1, .int p1), (2, .int p2)] := hl
  unfold GX1_polynomial at hF
  refine lv_aload_n hx hb dX1_polynomial_0 rfl (lv_at hl 0 rfl) ?_
  refine lv_iload_n hx hb dX1_polynomial_1 rfl (lv_at hl 1 rfl) ?_
  obtain ⟨fc1, ec1, hF⟩ := gC_s hF
  rcases bnx_s hF with ⟨r1, u1, e1, hF⟩ | ⟨q1, u1, e1, hF⟩
  rotate_left
  · obtain ⟨mc1, ms1, hmc1, hms1⟩ := up_of (moX1_chainAt h a0 p1 _ e1)
    have hcx := cst_call hc hmc1 hms1
    have bx1 := bud_r hcx hF hmc hms
    refine h_xthrr rfl (vx_runV (As := [.int p1]) (rest := []) ⟨hx, hb, hml, hown, hts⟩ (mgX1_chainAt l hl0 D A h a0 p1 _ e1 mc1 ms1 hmc1 hms1) (cwV 1 hts (lw_V q1773 q1775 qs40 q101 q1776) rfl rfl rfl (by decide +kernel) ⟨Nat.le_of_ble_eq_true rfl, Nat.le_of_ble_eq_true rfl⟩) (h_preV hGr hr hS ec1 (by decide) (q := (RX1, TX1, 7)) rfl _) rfl rfl hl.1 rfl (lv_room (Nat.le_of_ble_eq_true rfl)) dX1_polynomial_2 ⟨bx1.1, bx1.2⟩) hS (fun E9 q9 u9 H locs ce9 e1 e2 e3 hr hS h1 h2 h3 => ?_)
    exact h_xpass hGr htb hlocks hF bx1 e1 e2 e3 hr hS h1 h2 h3
  have mm1 : hle u1 out.2 := (show Mo u1 _ from mo_gC (mo_bnx (moX1_requireNumber u1 a0 p2) hle_rf (fun r2 u2 m2 => mo_gQ (fun x3_ => mo_gC (mo_bnd (moX2_polynomial n u2 x3_ r1 p2) m2 (fun r4 u4 m4 => mo_ret m4)))))) _ hF
  obtain ⟨mc1, ms1, hmc1, hms1⟩ := up_of (moX1_chainAt h a0 p1 _ e1)
  replace hc := cst_call hc hmc1 hms1
  refine h_xretr rfl (vx_runV (As := [.int p1]) (rest := []) ⟨hx, hb, hml, hown, hts⟩ (mgX1_chainAt l hl0 D A h a0 p1 _ e1 mc1 ms1 hmc1 hms1) (cwV 1 hts (lw_V q1773 q1775 qs40 q101 q1776) rfl rfl rfl (by decide +kernel) ⟨Nat.le_of_ble_eq_true rfl, Nat.le_of_ble_eq_true rfl⟩) (h_preV hGr hr hS ec1 (by decide) (q := (RX1, TX1, 7)) rfl _) rfl rfl hl.1 rfl (lv_room (Nat.le_of_ble_eq_true rfl)) dX1_polynomial_2 ⟨(bud hc mm1 hmc hms).1, (bud hc mm1 hmc hms).2⟩) hS (fun H locs hr hS => ?_)
  refine lv_astore_n (lv' := [(3, .ref r1), (0, .ref a0), (1, .int p1), (2, .int p2)]) hx hb dX1_polynomial_5 rfl hl (by decide) rfl (fun ls hl => ?_)
  refine lv_aload_n hx hb dX1_polynomial_6 rfl (lv_at hl 1 rfl) ?_
  refine lv_iload_n hx hb dX1_polynomial_7 rfl (lv_at hl 3 rfl) ?_
  obtain ⟨fc2, ec2, hF⟩ := gC_s hF
  rcases bnx_s hF with ⟨r2, u2, e2, hF⟩ | ⟨q2, u2, e2, hF⟩
  rotate_left
  · obtain ⟨mc2, ms2, hmc2, hms2⟩ := up_of (moX1_requireNumber u1 a0 p2 _ e2)
    have hcx := cst_call hc hmc2 hms2
    have bx2 := bud_r hcx hF hmc hms
    refine h_xthrv rfl (vx_runV (As := [.int p2]) (rest := []) ⟨hx, hb, hml, hown, hts⟩ (mgX1_requireNumber l hl0 D A u1 a0 p2 _ e2 mc2 ms2 hmc2 hms2) (cwV 1 hts (lw_V q1725 q1727 qs39 q101 q1728) rfl rfl rfl (by decide +kernel) ⟨Nat.le_of_ble_eq_true rfl, Nat.le_of_ble_eq_true rfl⟩) (h_preV hGr hr hS ec2 (by decide) (q := (RX1, TX1, 7)) rfl _) rfl rfl hl.1 rfl (lv_room (Nat.le_of_ble_eq_true rfl)) dX1_polynomial_8 ⟨bx2.1, bx2.2⟩) hS (fun E9 q9 u9 H locs ce9 e1 e2 e3 hr hS h1 h2 h3 => ?_)
    exact h_xpass hGr htb hlocks hF bx2 e1 e2 e3 hr hS h1 h2 h3
  have mm2 : hle u2 out.2 := (show Mo u2 _ from mo_gQ (fun x3_ => mo_gC (mo_bnd (moX2_polynomial n u2 x3_ r1 p2) hle_rf (fun r4 u4 m4 => mo_ret m4)))) _ hF
  obtain ⟨mc2, ms2, hmc2, hms2⟩ := up_of (moX1_requireNumber u1 a0 p2 _ e2)
  replace hc := cst_call hc hmc2 hms2
  refine h_xretv rfl (vx_runV (As := [.int p2]) (rest := []) ⟨hx, hb, hml, hown, hts⟩ (mgX1_requireNumber l hl0 D A u1 a0 p2 _ e2 mc2 ms2 hmc2 hms2) (cwV 1 hts (lw_V q1725 q1727 qs39 q101 q1728) rfl rfl rfl (by decide +kernel) ⟨Nat.le_of_ble_eq_true rfl, Nat.le_of_ble_eq_true rfl⟩) (h_preV hGr hr hS ec2 (by decide) (q := (RX1, TX1, 7)) rfl _) rfl rfl hl.1 rfl (lv_room (Nat.le_of_ble_eq_true rfl)) dX1_polynomial_8 ⟨(bud hc mm2 hmc hms).1, (bud hc mm2 hmc hms).2⟩) hS (fun H locs hr hS => ?_)
  refine lv_aload_n hx hb dX1_polynomial_11 rfl (lv_at hl 1 rfl) ?_
  obtain ⟨fs3, x3_, e3, f3, hF⟩ := gQ_s hF
  refine h_get (C := RX1) (T := TX1) (N := 7) hx hb hts in_X1 hown hGr hr e3 (by decide) rfl 0 (by decide) (hts _ q633) (fun _ h9 => h9) f3 dX1_polynomial_12 ?_
  refine lv_aload_n hx hb dX1_polynomial_15 rfl (lv_at hl 0 rfl) ?_
  refine lv_iload_n hx hb dX1_polynomial_16 rfl (lv_at hl 3 rfl) ?_
  obtain ⟨fc4, ec4, hF⟩ := gC_s hF
  obtain ⟨r4, u4, e4, hF⟩ := bnd_s hF
  have mm4 : hle u4 out.2 := (show Mo u4 _ from mo_ret hle_rf) _ hF
  obtain ⟨mc4, ms4, hmc4, hms4⟩ := up_of (moX2_polynomial n u2 x3_ r1 p2 _ e4)
  replace hc := cst_call hc hmc4 hms4
  refine h_calli (va_runV (As := [.ref r1, .int p2]) (rest := []) ⟨hx, hb, hml, hown, hts⟩ (mgX2_polynomial l D A u2 n x3_ r1 p2 _ e4 mc4 ms4 hmc4 hms4) (cwV 2 hts (lw_V q1785 q1786 q1787 q102 q1788) rfl rfl rfl (by decide +kernel) ⟨Nat.le_of_ble_eq_true rfl, Nat.le_of_ble_eq_true rfl⟩) (h_preV hGr hr hS ec4 (by decide) (q := (RX2, TX2, 11)) rfl _) rfl rfl hl.1 rfl (lv_room (Nat.le_of_ble_eq_true rfl)) dX1_polynomial_17 ⟨(bud hc mm4 hmc hms).1, (bud hc mm4 hmc hms).2⟩) hS (fun rr uu H locs hw hr hS => ?_)
  obtain rfl : u4 = uu := (congrArg Prod.snd hw).symm
  obtain rfl : r4 = rr := (congrArg Prod.fst hw).symm
  have bz := bud_r hc hF hmc hms
  refine vx_ret ?_
  refine W.widen (k := mc) (n := ms) bz.1 bz.2 ?_
  exact W.iret (v := r4) hx hb hret (fun t ht hWm => ⟨⟨r4, u4, rfl, Option.some.inj hF, h_end hGr hr hS ht hWm⟩, hS.F ht⟩) hS.2.2 dX1_polynomial_20

def GX1_coefficient (n : Nat) (h : Hp) (a0 : Nat) (p1 : Int32) (p2 : Int32) : Option ((Int32 ⊕ Xq) × Hp) := gC h a0 1 (bnx (GX1_chainAt h a0 p1) (fun r1 u1 => gC u1 r1 7 (bnd (GX8_many u1 r1) (fun r2 u2 => bnd (GX1_inRange u2 ((p2).toInt64) (0 : Int64) ((r2).toInt64)) (fun r3 u3 => bnx (GX1_requireArgument u3 r3) (fun r4 u4 => gQ u4 a0 1 0 (fun x5_ => gC u4 x5_ 2 (bnd (GX2_coefficients n u4 x5_ r1) (fun r6 u6 => aI u6 r6 0 p2 (fun x7_ => some (.inl x7_, u6)))))))))))
theorem moX1_coefficient (n : Nat) (h : Hp) (a0 : Nat) (p1 : Int32) (p2 : Int32) : Mo h (GX1_coefficient n h a0 p1 p2) := by
  unfold GX1_coefficient
  exact mo_gC (mo_bnx (moX1_chainAt h a0 p1) hle_rf (fun r1 u1 m1 => mo_gC (mo_bnd (moX8_many u1 r1) m1 (fun r2 u2 m2 => mo_bnd (moX1_inRange u2 ((p2).toInt64) (0 : Int64) ((r2).toInt64)) m2 (fun r3 u3 m3 => mo_bnx (moX1_requireArgument u3 r3) m3 (fun r4 u4 m4 => mo_gQ (fun x5_ => mo_gC (mo_bnd (moX2_coefficients n u4 x5_ r1) m4 (fun r6 u6 m6 => mo_aI (fun x7_ => mo_ret m6))))))))))
set_option maxHeartbeats 4000000 in
set_option maxRecDepth 100000 in
theorem mgX1_coefficient (l : Launch) (hl0 : l.stackTraces = false) (D : HD) (A : Nat → Prop) (h : Hp) (n : Nat) (a0 : Nat) (p1 : Int32) (p2 : Int32) (out : (Int32 ⊕ Xq) × Hp) (hF : GX1_coefficient n h a0 p1 p2 = some out) (mc ms : Nat) (hmc : hCc out.2 = hCc h + mc) (hms : hSl out.2 = hSl h + ms) : vx_Met l yX1_coefficient (ws_ yX1_coefficient cX1_coefficient 4 (some .int)) ({ frames := 8, cells := mc, slots := ms, locals := 142 }) (va_Pc [.ref a0, .int p1, .int p2] (hW D A h)) (va_Qi (fun r u => ((.inl r : Int32 ⊕ Xq), u) = out) (hW D A) A) (xC D A out) mc ms A := by
  refine vx_ofW (cc := cX1_coefficient) (maxL := 4) (ret := (some .int)) (by decide +kernel) rfl ?_
  intro p e s m args below meth c s₁ B hml htb hv
  obtain ⟨rfl, hr, hGr⟩ := hv
  have hx := B.exec
  have hb := B.bytes
  have hret := B.returns
  have hts := atoms_spec (ws := (ws_ yX1_coefficient cX1_coefficient 4 (some .int))) B.pre
  have hts : ∀ w ∈ lw_all, w.before _ s = true := fun w h => hts w (List.mem_cons_of_mem _ h)
  have hown : s.vm.findClass RX1 = some m.cls := findClass_of_methodNamed B.named
  have hlocks := B.notSynchronized
  have hS : va_S A s.heap s.heap [] := va_S.rf
  have hc : cst h 0 0 h := cst_0
  have hl := lv_entry ([.ref a0, .int p1, .int p2]) (n := 4) (Nat.le_of_ble_eq_true rfl)
  rw [lg_entry_eq]
  generalize (lg_sl ([.ref a0, .int p1, .int p2]) ++ List.replicate (4 - (lg_sl ([.ref a0, .int p1, .int p2])).length) Slot.unset).toArray = ls at hl ⊢
  have hl : lv_has ls 4 [(0, .ref a0), (1, .int p1), (2, .int p2)] := hl
  unfold GX1_coefficient at hF
  refine lv_aload_n hx hb dX1_coefficient_0 rfl (lv_at hl 0 rfl) ?_
  refine lv_iload_n hx hb dX1_coefficient_1 rfl (lv_at hl 1 rfl) ?_
  obtain ⟨fc1, ec1, hF⟩ := gC_s hF
  rcases bnx_s hF with ⟨r1, u1, e1, hF⟩ | ⟨q1, u1, e1, hF⟩
  rotate_left
  · obtain ⟨mc1, ms1, hmc1, hms1⟩ := up_of (moX1_chainAt h a0 p1 _ e1)
    have hcx := cst_call hc hmc1 hms1
    have bx1 := bud_r hcx hF hmc hms
    refine h_xthrr rfl (vx_runV (As := [.int p1]) (rest := []) ⟨hx, hb, hml, hown, hts⟩ (mgX1_chainAt l hl0 D A h a0 p1 _ e1 mc1 ms1 hmc1 hms1) (cwV 1 hts (lw_V q1773 q1775 qs40 q101 q1776) rfl rfl rfl (by decide +kernel) ⟨Nat.le_of_ble_eq_true rfl, Nat.le_of_ble_eq_true rfl⟩) (h_preV hGr hr hS ec1 (by decide) (q := (RX1, TX1, 7)) rfl _) rfl rfl hl.1 rfl (lv_room (Nat.le_of_ble_eq_true rfl)) dX1_coefficient_2 ⟨bx1.1, bx1.2⟩) hS (fun E9 q9 u9 H locs ce9 e1 e2 e3 hr hS h1 h2 h3 => ?_)
    exact h_xpass hGr htb hlocks hF bx1 e1 e2 e3 hr hS h1 h2 h3
  have mm1 : hle u1 out.2 := (show Mo u1 _ from mo_gC (mo_bnd (moX8_many u1 r1) hle_rf (fun r2 u2 m2 => mo_bnd (moX1_inRange u2 ((p2).toInt64) (0 : Int64) ((r2).toInt64)) m2 (fun r3 u3 m3 => mo_bnx (moX1_requireArgument u3 r3) m3 (fun r4 u4 m4 => mo_gQ (fun x5_ => mo_gC (mo_bnd (moX2_coefficients n u4 x5_ r1) m4 (fun r6 u6 m6 => mo_aI (fun x7_ => mo_ret m6))))))))) _ hF
  obtain ⟨mc1, ms1, hmc1, hms1⟩ := up_of (moX1_chainAt h a0 p1 _ e1)
  replace hc := cst_call hc hmc1 hms1
  refine h_xretr rfl (vx_runV (As := [.int p1]) (rest := []) ⟨hx, hb, hml, hown, hts⟩ (mgX1_chainAt l hl0 D A h a0 p1 _ e1 mc1 ms1 hmc1 hms1) (cwV 1 hts (lw_V q1773 q1775 qs40 q101 q1776) rfl rfl rfl (by decide +kernel) ⟨Nat.le_of_ble_eq_true rfl, Nat.le_of_ble_eq_true rfl⟩) (h_preV hGr hr hS ec1 (by decide) (q := (RX1, TX1, 7)) rfl _) rfl rfl hl.1 rfl (lv_room (Nat.le_of_ble_eq_true rfl)) dX1_coefficient_2 ⟨(bud hc mm1 hmc hms).1, (bud hc mm1 hmc hms).2⟩) hS (fun H locs hr hS => ?_)
  refine lv_astore_n (lv' := [(3, .ref r1), (0, .ref a0), (1, .int p1), (2, .int p2)]) hx hb dX1_coefficient_5 rfl hl (by decide) rfl (fun ls hl => ?_)
  refine lv_iload_n hx hb dX1_coefficient_6 rfl (lv_at hl 3 rfl) ?_
  refine lv_i2l (v := (p2).toInt64) hx hb dX1_coefficient_7 rfl ?_
  refine lv_lconst (v := 0) hx hb dX1_coefficient_8 (by decide) ?_
  refine lv_aload_n hx hb dX1_coefficient_9 rfl (lv_at hl 0 rfl) ?_
  obtain ⟨fc2, ec2, hF⟩ := gC_s hF
  obtain ⟨r2, u2, e2, hF⟩ := bnd_s hF
  have mm2 : hle u2 out.2 := (show Mo u2 _ from mo_bnd (moX1_inRange u2 ((p2).toInt64) (0 : Int64) ((r2).toInt64)) hle_rf (fun r3 u3 m3 => mo_bnx (moX1_requireArgument u3 r3) m3 (fun r4 u4 m4 => mo_gQ (fun x5_ => mo_gC (mo_bnd (moX2_coefficients n u4 x5_ r1) m4 (fun r6 u6 m6 => mo_aI (fun x7_ => mo_ret m6))))))) _ hF
  obtain ⟨mc2, ms2, hmc2, hms2⟩ := up_of (moX8_many u1 r1 _ e2)
  replace hc := cst_call hc hmc2 hms2
  refine h_calli (va_runV (As := []) (rest := [.long (0 : Int64), .long ((p2).toInt64)]) ⟨hx, hb, hml, hown, hts⟩ (mgX8_many l D A u1 r1 _ e2 mc2 ms2 hmc2 hms2) (cwV 0 hts (lw_V q1298 q1048 q1049 q139 q1050) rfl rfl rfl (by decide +kernel) ⟨Nat.le_of_ble_eq_true rfl, Nat.le_of_ble_eq_true rfl⟩) (h_preV hGr hr hS ec2 (by decide) (q := (RX8, TX8, 3)) rfl _) rfl rfl hl.1 rfl (lv_room (Nat.le_of_ble_eq_true rfl)) dX1_coefficient_10 ⟨(bud hc mm2 hmc hms).1, (bud hc mm2 hmc hms).2⟩) hS (fun rr uu H locs hw hr hS => ?_)
  obtain rfl : u2 = uu := (congrArg Prod.snd hw).symm
  obtain rfl : r2 = rr := (congrArg Prod.fst hw).symm
  refine lv_i2l (v := (r2).toInt64) hx hb dX1_coefficient_13 rfl ?_
  obtain ⟨r3, u3, e3, hF⟩ := bnd_s hF
  have mm3 : hle u3 out.2 := (show Mo u3 _ from mo_bnx (moX1_requireArgument u3 r3) hle_rf (fun r4 u4 m4 => mo_gQ (fun x5_ => mo_gC (mo_bnd (moX2_coefficients n u4 x5_ r1) m4 (fun r6 u6 m6 => mo_aI (fun x7_ => mo_ret m6)))))) _ hF
  obtain ⟨mc3, ms3, hmc3, hms3⟩ := up_of (moX1_inRange u2 ((p2).toInt64) (0 : Int64) ((r2).toInt64) _ e3)
  replace hc := cst_call hc hmc3 hms3
  refine h_calli (va_runS (As := [.long ((p2).toInt64), .long (0 : Int64), .long ((r2).toInt64)]) (rest := []) ⟨hx, hb, hml, hown, hts⟩ (mgX1_inRange l D A u2 ((p2).toInt64) (0 : Int64) ((r2).toInt64) _ e3 mc3 ms3 hmc3 hms3) (va_cwS 3 hts (lw_S q1420 q1421 q101 q1422) rfl rfl rfl (by decide +kernel) ⟨Nat.le_of_ble_eq_true rfl, Nat.le_of_ble_eq_true rfl⟩) (h_preS hGr hr hS _) rfl rfl hl.1 rfl (lv_room (Nat.le_of_ble_eq_true rfl)) dX1_coefficient_14 ⟨(bud hc mm3 hmc hms).1, (bud hc mm3 hmc hms).2⟩) hS (fun rr uu H locs hw hr hS => ?_)
  obtain rfl : u3 = uu := (congrArg Prod.snd hw).symm
  obtain rfl : r3 = rr := (congrArg Prod.fst hw).symm
  rcases bnx_s hF with ⟨r4, u4, e4, hF⟩ | ⟨q4, u4, e4, hF⟩
  rotate_left
  · obtain ⟨mc4, ms4, hmc4, hms4⟩ := up_of (moX1_requireArgument u3 r3 _ e4)
    have hcx := cst_call hc hmc4 hms4
    have bx4 := bud_r hcx hF hmc hms
    refine h_xthrv rfl (vx_runS (As := [.int r3]) (rest := []) ⟨hx, hb, hml, hown, hts⟩ (mgX1_requireArgument l hl0 D A u3 r3 _ e4 mc4 ms4 hmc4 hms4) (va_cwS 1 hts (lw_S q1423 q1424 q101 q1425) rfl rfl rfl (by decide +kernel) ⟨Nat.le_of_ble_eq_true rfl, Nat.le_of_ble_eq_true rfl⟩) (h_preS hGr hr hS _) rfl rfl hl.1 rfl (lv_room (Nat.le_of_ble_eq_true rfl)) dX1_coefficient_17 ⟨bx4.1, bx4.2⟩) hS (fun E9 q9 u9 H locs ce9 e1 e2 e3 hr hS h1 h2 h3 => ?_)
    exact h_xpass hGr htb hlocks hF bx4 e1 e2 e3 hr hS h1 h2 h3
  have mm4 : hle u4 out.2 := (show Mo u4 _ from mo_gQ (fun x5_ => mo_gC (mo_bnd (moX2_coefficients n u4 x5_ r1) hle_rf (fun r6 u6 m6 => mo_aI (fun x7_ => mo_ret m6))))) _ hF
  obtain ⟨mc4, ms4, hmc4, hms4⟩ := up_of (moX1_requireArgument u3 r3 _ e4)
  replace hc := cst_call hc hmc4 hms4
  refine h_xretv rfl (vx_runS (As := [.int r3]) (rest := []) ⟨hx, hb, hml, hown, hts⟩ (mgX1_requireArgument l hl0 D A u3 r3 _ e4 mc4 ms4 hmc4 hms4) (va_cwS 1 hts (lw_S q1423 q1424 q101 q1425) rfl rfl rfl (by decide +kernel) ⟨Nat.le_of_ble_eq_true rfl, Nat.le_of_ble_eq_true rfl⟩) (h_preS hGr hr hS _) rfl rfl hl.1 rfl (lv_room (Nat.le_of_ble_eq_true rfl)) dX1_coefficient_17 ⟨(bud hc mm4 hmc hms).1, (bud hc mm4 hmc hms).2⟩) hS (fun H locs hr hS => ?_)
  refine lv_aload_n hx hb dX1_coefficient_20 rfl (lv_at hl 1 rfl) ?_
  obtain ⟨fs5, x5_, e5, f5, hF⟩ := gQ_s hF
  refine h_get (C := RX1) (T := TX1) (N := 7) hx hb hts in_X1 hown hGr hr e5 (by decide) rfl 0 (by decide) (hts _ q633) (fun _ h9 => h9) f5 dX1_coefficient_21 ?_
  refine lv_aload_n hx hb dX1_coefficient_24 rfl (lv_at hl 0 rfl) ?_
  obtain ⟨fc6, ec6, hF⟩ := gC_s hF
  obtain ⟨r6, u6, e6, hF⟩ := bnd_s hF
  have mm6 : hle u6 out.2 := (show Mo u6 _ from mo_aI (fun x7_ => mo_ret hle_rf)) _ hF
  obtain ⟨mc6, ms6, hmc6, hms6⟩ := up_of (moX2_coefficients n u4 x5_ r1 _ e6)
  replace hc := cst_call hc hmc6 hms6
  refine h_callr (va_runV (As := [.ref r1]) (rest := []) ⟨hx, hb, hml, hown, hts⟩ (mgX2_coefficients l D A u4 n x5_ r1 _ e6 mc6 ms6 hmc6 hms6) (cwV 1 hts (lw_V q1805 q1806 q1807 q102 q1808) rfl rfl rfl (by decide +kernel) ⟨Nat.le_of_ble_eq_true rfl, Nat.le_of_ble_eq_true rfl⟩) (h_preV hGr hr hS ec6 (by decide) (q := (RX2, TX2, 11)) rfl _) rfl rfl hl.1 rfl (lv_room (Nat.le_of_ble_eq_true rfl)) dX1_coefficient_25 ⟨(bud hc mm6 hmc hms).1, (bud hc mm6 hmc hms).2⟩) hS (fun rr uu H locs hw hr hS => ?_)
  obtain rfl : u6 = uu := (congrArg Prod.snd hw).symm
  obtain rfl : r6 = rr := (congrArg Prod.fst hw).symm
  refine lv_iload_n hx hb dX1_coefficient_28 rfl (lv_at hl 3 rfl) ?_
  obtain ⟨n7, f7, e7, g7, hF⟩ := aI_s hF
  obtain ⟨x7_, ex7⟩ : ∃ z, z = f7 (p2).toNatClampNeg := ⟨_, rfl⟩
  rw [← ex7] at hF
  refine h_iald hx hb hGr hr 0 rfl e7 g7 dX1_coefficient_29 ?_
  rw [← ex7]
  have bz := bud_r hc hF hmc hms
  refine vx_ret ?_
  refine W.widen (k := mc) (n := ms) bz.1 bz.2 ?_
  exact W.iret (v := x7_) hx hb hret (fun t ht hWm => ⟨⟨x7_, u6, rfl, Option.some.inj hF, h_end hGr hr hS ht hWm⟩, hS.F ht⟩) hS.2.2 dX1_coefficient_30

def GX1_applied (n : Nat) (h : Hp) (a0 : Nat) (p1 : Int32) (p2 : Int32) (p3 : Int32) : Option ((Int32 ⊕ Xq) × Hp) := gC h a0 1 (bnx (GX1_chainAt h a0 p1) (fun r1 u1 => nA u1 0 (2 : Int32) (fun a2_ h2 => sI h2 a2_ 0 (0 : Int32) p2 (fun h3 => sI h3 a2_ 0 (1 : Int32) p3 (fun h4 => gC h4 a0 1 (bnx (GX1_requirePlaces n h4 a0 a2_) (fun r5 u5 => gQ u5 a0 1 0 (fun x6_ => gQ u5 a0 1 0 (fun x7_ => gC u5 x7_ 2 (bnd (GX2_coefficients n u5 x7_ r1) (fun r8 u8 => gQ u8 a0 1 0 (fun x9_ => gI u8 x9_ 2 1 (fun x10_ => bnd (GX4_unit u8 x10_ p2) (fun r11 u11 => gC u11 x6_ 2 (bnd (GX2_applied n u11 x6_ r8 r11) (fun r12 u12 => gQ u12 r12 4 0 (fun x13_ => aI u12 x13_ 0 p3 (fun x14_ => some (.inl x14_, u12)))))))))))))))))))
theorem moX1_applied (n : Nat) (h : Hp) (a0 : Nat) (p1 : Int32) (p2 : Int32) (p3 : Int32) : Mo h (GX1_applied n h a0 p1 p2 p3) := by
  unfold GX1_applied
  exact mo_gC (mo_bnx (moX1_chainAt h a0 p1) hle_rf (fun r1 u1 m1 => mo_nA m1 (fun a2_ h2 m2 => mo_sI m2 (fun h3 m3 => mo_sI m3 (fun h4 m4 => mo_gC (mo_bnx (moX1_requirePlaces n h4 a0 a2_) m4 (fun r5 u5 m5 => mo_gQ (fun x6_ => mo_gQ (fun x7_ => mo_gC (mo_bnd (moX2_coefficients n u5 x7_ r1) m5 (fun r8 u8 m8 => mo_gQ (fun x9_ => mo_gI (fun x10_ => mo_bnd (moX4_unit u8 x10_ p2) m8 (fun r11 u11 m11 => mo_gC (mo_bnd (moX2_applied n u11 x6_ r8 r11) m11 (fun r12 u12 m12 => mo_gQ (fun x13_ => mo_aI (fun x14_ => mo_ret m12))))))))))))))))))
set_option maxHeartbeats 4000000 in
set_option maxRecDepth 100000 in
theorem mgX1_applied (l : Launch) (hl0 : l.stackTraces = false) (D : HD) (A : Nat → Prop) (h : Hp) (n : Nat) (a0 : Nat) (p1 : Int32) (p2 : Int32) (p3 : Int32) (out : (Int32 ⊕ Xq) × Hp) (hF : GX1_applied n h a0 p1 p2 p3 = some out) (mc ms : Nat) (hmc : hCc out.2 = hCc h + mc) (hms : hSl out.2 = hSl h + ms) : vx_Met l yX1_applied (ws_ yX1_applied cX1_applied 5 (some .int)) ({ frames := 8, cells := mc, slots := ms, locals := 146 }) (va_Pc [.ref a0, .int p1, .int p2, .int p3] (hW D A h)) (va_Qi (fun r u => ((.inl r : Int32 ⊕ Xq), u) = out) (hW D A) A) (xC D A out) mc ms A := by
  refine vx_ofW (cc := cX1_applied) (maxL := 5) (ret := (some .int)) (by decide +kernel) rfl ?_
  intro p e s m args below meth c s₁ B hml htb hv
  obtain ⟨rfl, hr, hGr⟩ := hv
  have hx := B.exec
  have hb := B.bytes
  have hret := B.returns
  have hts := atoms_spec (ws := (ws_ yX1_applied cX1_applied 5 (some .int))) B.pre
  have hts : ∀ w ∈ lw_all, w.before _ s = true := fun w h => hts w (List.mem_cons_of_mem _ h)
  have hown : s.vm.findClass RX1 = some m.cls := findClass_of_methodNamed B.named
  have hlocks := B.notSynchronized
  have hS : va_S A s.heap s.heap [] := va_S.rf
  have hc : cst h 0 0 h := cst_0
  have hl := lv_entry ([.ref a0, .int p1, .int p2, .int p3]) (n := 5) (Nat.le_of_ble_eq_true rfl)
  rw [lg_entry_eq]
  generalize (lg_sl ([.ref a0, .int p1, .int p2, .int p3]) ++ List.replicate (5 - (lg_sl ([.ref a0, .int p1, .int p2, .int p3])).length) Slot.unset).toArray = ls at hl ⊢
  have hl : lv_has ls 5 [(0, .ref a0), (1, .int p1), (2, .int p2), (3, .int p3)] := hl
  unfold GX1_applied at hF
  refine lv_aload_n hx hb dX1_applied_0 rfl (lv_at hl 0 rfl) ?_
  refine lv_iload_n hx hb dX1_applied_1 rfl (lv_at hl 1 rfl) ?_
  obtain ⟨fc1, ec1, hF⟩ := gC_s hF
  rcases bnx_s hF with ⟨r1, u1, e1, hF⟩ | ⟨q1, u1, e1, hF⟩
  rotate_left
  · obtain ⟨mc1, ms1, hmc1, hms1⟩ := up_of (moX1_chainAt h a0 p1 _ e1)
    have hcx := cst_call hc hmc1 hms1
    have bx1 := bud_r hcx hF hmc hms
    refine h_xthrr rfl (vx_runV (As := [.int p1]) (rest := []) ⟨hx, hb, hml, hown, hts⟩ (mgX1_chainAt l hl0 D A h a0 p1 _ e1 mc1 ms1 hmc1 hms1) (cwV 1 hts (lw_V q1773 q1775 qs40 q101 q1776) rfl rfl rfl (by decide +kernel) ⟨Nat.le_of_ble_eq_true rfl, Nat.le_of_ble_eq_true rfl⟩) (h_preV hGr hr hS ec1 (by decide) (q := (RX1, TX1, 7)) rfl _) rfl rfl hl.1 rfl (lv_room (Nat.le_of_ble_eq_true rfl)) dX1_applied_2 ⟨bx1.1, bx1.2⟩) hS (fun E9 q9 u9 H locs ce9 e1 e2 e3 hr hS h1 h2 h3 => ?_)
    exact h_xpass hGr htb hlocks hF bx1 e1 e2 e3 hr hS h1 h2 h3
  have mm1 : hle u1 out.2 := (show Mo u1 _ from mo_nA hle_rf (fun a2_ h2 m2 => mo_sI m2 (fun h3 m3 => mo_sI m3 (fun h4 m4 => mo_gC (mo_bnx (moX1_requirePlaces n h4 a0 a2_) m4 (fun r5 u5 m5 => mo_gQ (fun x6_ => mo_gQ (fun x7_ => mo_gC (mo_bnd (moX2_coefficients n u5 x7_ r1) m5 (fun r8 u8 m8 => mo_gQ (fun x9_ => mo_gI (fun x10_ => mo_bnd (moX4_unit u8 x10_ p2) m8 (fun r11 u11 m11 => mo_gC (mo_bnd (moX2_applied n u11 x6_ r8 r11) m11 (fun r12 u12 m12 => mo_gQ (fun x13_ => mo_aI (fun x14_ => mo_ret m12))))))))))))))))) _ hF
  obtain ⟨mc1, ms1, hmc1, hms1⟩ := up_of (moX1_chainAt h a0 p1 _ e1)
  replace hc := cst_call hc hmc1 hms1
  refine h_xretr rfl (vx_runV (As := [.int p1]) (rest := []) ⟨hx, hb, hml, hown, hts⟩ (mgX1_chainAt l hl0 D A h a0 p1 _ e1 mc1 ms1 hmc1 hms1) (cwV 1 hts (lw_V q1773 q1775 qs40 q101 q1776) rfl rfl rfl (by decide +kernel) ⟨Nat.le_of_ble_eq_true rfl, Nat.le_of_ble_eq_true rfl⟩) (h_preV hGr hr hS ec1 (by decide) (q := (RX1, TX1, 7)) rfl _) rfl rfl hl.1 rfl (lv_room (Nat.le_of_ble_eq_true rfl)) dX1_applied_2 ⟨(bud hc mm1 hmc hms).1, (bud hc mm1 hmc hms).2⟩) hS (fun H locs hr hS => ?_)
  refine lv_astore (lv' := [(4, .ref r1), (0, .ref a0), (1, .int p1), (2, .int p2), (3, .int p3)]) hx hb dX1_applied_5 hl (by decide) rfl (fun ls hl => ?_)
  refine lv_aload_n hx hb dX1_applied_7 rfl (lv_at hl 1 rfl) ?_
  refine lv_iconst (v := 2) hx hb dX1_applied_8 (by decide) ?_
  obtain ⟨a2_, h2, ea2, eh2, g2, hF⟩ := nA_s hF
  have mm2 : hle h2 out.2 := (show Mo h2 _ from mo_sI hle_rf (fun h3 m3 => mo_sI m3 (fun h4 m4 => mo_gC (mo_bnx (moX1_requirePlaces n h4 a0 a2_) m4 (fun r5 u5 m5 => mo_gQ (fun x6_ => mo_gQ (fun x7_ => mo_gC (mo_bnd (moX2_coefficients n u5 x7_ r1) m5 (fun r8 u8 m8 => mo_gQ (fun x9_ => mo_gI (fun x10_ => mo_bnd (moX4_unit u8 x10_ p2) m8 (fun r11 u11 m11 => mo_gC (mo_bnd (moX2_applied n u11 x6_ r8 r11) m11 (fun r12 u12 m12 => mo_gQ (fun x13_ => mo_aI (fun x14_ => mo_ret m12)))))))))))))))) _ hF
  replace hc := cst_new hc eh2
  refine h_newI hx hb (hts _ q177) hGr hr hS g2 (bud hc mm2 hmc hms).1 (bud hc mm2 hmc hms).2 dX1_applied_9 (fun H hr hS => ?_)
  rw [← eh2] at hr
  rw [← ea2]
  refine lv_dup hx hb dX1_applied_11 rfl ?_
  refine lv_iconst (v := 0) hx hb dX1_applied_12 (by decide) ?_
  refine lv_iload_n hx hb dX1_applied_13 rfl (lv_at hl 3 rfl) ?_
  obtain ⟨n3, f3, e3, lo3, g3, hF⟩ := sI_s hF
  obtain ⟨h3, eh3⟩ : ∃ z, z = hPut h2 a2_ (.inl (0, n3, .inl (upd f3 ((0 : Int32)).toNatClampNeg p2))) := ⟨_, rfl⟩
  rw [← eh3] at hF
  refine h_iast hx hb hGr hr hS 0 rfl e3 (x := p2) g3 lo3 dX1_applied_14 (fun H locs hr hS => ?_)
  rw [← eh3] at hr
  replace hc := cst_put hc eh3
  refine lv_dup hx hb dX1_applied_15 rfl ?_
  refine lv_iconst (v := 1) hx hb dX1_applied_16 (by decide) ?_
  refine lv_iload_n hx hb dX1_applied_17 rfl (lv_at hl 4 rfl) ?_
  obtain ⟨n4, f4, e4, lo4, g4, hF⟩ := sI_s hF
  obtain ⟨h4, eh4⟩ : ∃ z, z = hPut h3 a2_ (.inl (0, n4, .inl (upd f4 ((1 : Int32)).toNatClampNeg p3))) := ⟨_, rfl⟩
  rw [← eh4] at hF
  refine h_iast hx hb hGr hr hS 0 rfl e4 (x := p3) g4 lo4 dX1_applied_18 (fun H locs hr hS => ?_)
  rw [← eh4] at hr
  replace hc := cst_put hc eh4
  obtain ⟨fc5, ec5, hF⟩ := gC_s hF
  rcases bnx_s hF with ⟨r5, u5, e5, hF⟩ | ⟨q5, u5, e5, hF⟩
  rotate_left
  · obtain ⟨mc5, ms5, hmc5, hms5⟩ := up_of (moX1_requirePlaces n h4 a0 a2_ _ e5)
    have hcx := cst_call hc hmc5 hms5
    have bx5 := bud_r hcx hF hmc hms
    refine h_xthrv rfl (vx_runV (As := [.ref a2_]) (rest := []) ⟨hx, hb, hml, hown, hts⟩ (mgX1_requirePlaces l hl0 D A h4 n a0 a2_ _ e5 mc5 ms5 hmc5 hms5) (cwV 1 hts (lw_V q1689 q1691 qs38 q101 q1692) rfl rfl rfl (by decide +kernel) ⟨Nat.le_of_ble_eq_true rfl, Nat.le_of_ble_eq_true rfl⟩) (h_preV hGr hr hS ec5 (by decide) (q := (RX1, TX1, 7)) rfl _) rfl rfl hl.1 rfl (lv_room (Nat.le_of_ble_eq_true rfl)) dX1_applied_19 ⟨bx5.1, bx5.2⟩) hS (fun E9 q9 u9 H locs ce9 e1 e2 e3 hr hS h1 h2 h3 => ?_)
    exact h_xpass hGr htb hlocks hF bx5 e1 e2 e3 hr hS h1 h2 h3
  have mm5 : hle u5 out.2 := (show Mo u5 _ from mo_gQ (fun x6_ => mo_gQ (fun x7_ => mo_gC (mo_bnd (moX2_coefficients n u5 x7_ r1) hle_rf (fun r8 u8 m8 => mo_gQ (fun x9_ => mo_gI (fun x10_ => mo_bnd (moX4_unit u8 x10_ p2) m8 (fun r11 u11 m11 => mo_gC (mo_bnd (moX2_applied n u11 x6_ r8 r11) m11 (fun r12 u12 m12 => mo_gQ (fun x13_ => mo_aI (fun x14_ => mo_ret m12)))))))))))) _ hF
  obtain ⟨mc5, ms5, hmc5, hms5⟩ := up_of (moX1_requirePlaces n h4 a0 a2_ _ e5)
  replace hc := cst_call hc hmc5 hms5
  refine h_xretv rfl (vx_runV (As := [.ref a2_]) (rest := []) ⟨hx, hb, hml, hown, hts⟩ (mgX1_requirePlaces l hl0 D A h4 n a0 a2_ _ e5 mc5 ms5 hmc5 hms5) (cwV 1 hts (lw_V q1689 q1691 qs38 q101 q1692) rfl rfl rfl (by decide +kernel) ⟨Nat.le_of_ble_eq_true rfl, Nat.le_of_ble_eq_true rfl⟩) (h_preV hGr hr hS ec5 (by decide) (q := (RX1, TX1, 7)) rfl _) rfl rfl hl.1 rfl (lv_room (Nat.le_of_ble_eq_true rfl)) dX1_applied_19 ⟨(bud hc mm5 hmc hms).1, (bud hc mm5 hmc hms).2⟩) hS (fun H locs hr hS => ?_)
  refine lv_aload_n hx hb dX1_applied_22 rfl (lv_at hl 1 rfl) ?_
  obtain ⟨fs6, x6_, e6, f6, hF⟩ := gQ_s hF
  refine h_get (C := RX1) (T := TX1) (N := 7) hx hb hts in_X1 hown hGr hr e6 (by decide) rfl 0 (by decide) (hts _ q633) (fun _ h9 => h9) f6 dX1_applied_23 ?_
  refine lv_aload_n hx hb dX1_applied_26 rfl (lv_at hl 1 rfl) ?_
  obtain ⟨fs7, x7_, e7, f7, hF⟩ := gQ_s hF
  refine h_get (C := RX1) (T := TX1) (N := 7) hx hb hts in_X1 hown hGr hr e7 (by decide) rfl 0 (by decide) (hts _ q633) (fun _ h9 => h9) f7 dX1_applied_27 ?_
  refine lv_aload hx hb dX1_applied_30 (lv_at hl 0 rfl) ?_
  obtain ⟨fc8, ec8, hF⟩ := gC_s hF
  obtain ⟨r8, u8, e8, hF⟩ := bnd_s hF
  have mm8 : hle u8 out.2 := (show Mo u8 _ from mo_gQ (fun x9_ => mo_gI (fun x10_ => mo_bnd (moX4_unit u8 x10_ p2) hle_rf (fun r11 u11 m11 => mo_gC (mo_bnd (moX2_applied n u11 x6_ r8 r11) m11 (fun r12 u12 m12 => mo_gQ (fun x13_ => mo_aI (fun x14_ => mo_ret m12)))))))) _ hF
  obtain ⟨mc8, ms8, hmc8, hms8⟩ := up_of (moX2_coefficients n u5 x7_ r1 _ e8)
  replace hc := cst_call hc hmc8 hms8
  refine h_callr (va_runV (As := [.ref r1]) (rest := [.ref x6_]) ⟨hx, hb, hml, hown, hts⟩ (mgX2_coefficients l D A u5 n x7_ r1 _ e8 mc8 ms8 hmc8 hms8) (cwV 1 hts (lw_V q1805 q1806 q1807 q102 q1808) rfl rfl rfl (by decide +kernel) ⟨Nat.le_of_ble_eq_true rfl, Nat.le_of_ble_eq_true rfl⟩) (h_preV hGr hr hS ec8 (by decide) (q := (RX2, TX2, 11)) rfl _) rfl rfl hl.1 rfl (lv_room (Nat.le_of_ble_eq_true rfl)) dX1_applied_32 ⟨(bud hc mm8 hmc hms).1, (bud hc mm8 hmc hms).2⟩) hS (fun rr uu H locs hw hr hS => ?_)
  obtain rfl : u8 = uu := (congrArg Prod.snd hw).symm
  obtain rfl : r8 = rr := (congrArg Prod.fst hw).symm
  refine lv_aload_n hx hb dX1_applied_35 rfl (lv_at hl 1 rfl) ?_
  obtain ⟨fs9, x9_, e9, f9, hF⟩ := gQ_s hF
  refine h_get (C := RX1) (T := TX1) (N := 7) hx hb hts in_X1 hown hGr hr e9 (by decide) rfl 0 (by decide) (hts _ q633) (fun _ h9 => h9) f9 dX1_applied_36 ?_
  obtain ⟨fs10, x10_, e10, f10, hF⟩ := gI_s hF
  refine h_getN (C := RX2) (T := TX2) (N := 11) hx hb hts in_X2 hown hGr hr e10 (by decide) rfl 1 (by decide) (va_Nw.use rfl (hGr.nw q567 rfl)) (fun _ h9 => h9) f10 dX1_applied_39 ?_
  refine lv_iload_n hx hb dX1_applied_42 rfl (lv_at hl 3 rfl) ?_
  obtain ⟨r11, u11, e11, hF⟩ := bnd_s hF
  have mm11 : hle u11 out.2 := (show Mo u11 _ from mo_gC (mo_bnd (moX2_applied n u11 x6_ r8 r11) hle_rf (fun r12 u12 m12 => mo_gQ (fun x13_ => mo_aI (fun x14_ => mo_ret m12))))) _ hF
  obtain ⟨mc11, ms11, hmc11, hms11⟩ := up_of (moX4_unit u8 x10_ p2 _ e11)
  replace hc := cst_call hc hmc11 hms11
  refine h_callr (va_runS (As := [.int x10_, .int p2]) (rest := [.ref r8, .ref x6_]) ⟨hx, hb, hml, hown, hts⟩ (mgX4_unit l D A u8 x10_ p2 _ e11 mc11 ms11 hmc11 hms11) (va_cwS 2 hts (lw_S q1816 q1005 q123 q1006) rfl rfl rfl (by decide +kernel) ⟨Nat.le_of_ble_eq_true rfl, Nat.le_of_ble_eq_true rfl⟩) (h_preS hGr hr hS _) rfl rfl hl.1 rfl (lv_room (Nat.le_of_ble_eq_true rfl)) dX1_applied_43 ⟨(bud hc mm11 hmc hms).1, (bud hc mm11 hmc hms).2⟩) hS (fun rr uu H locs hw hr hS => ?_)
  obtain rfl : u11 = uu := (congrArg Prod.snd hw).symm
  obtain rfl : r11 = rr := (congrArg Prod.fst hw).symm
  obtain ⟨fc12, ec12, hF⟩ := gC_s hF
  obtain ⟨r12, u12, e12, hF⟩ := bnd_s hF
  have mm12 : hle u12 out.2 := (show Mo u12 _ from mo_gQ (fun x13_ => mo_aI (fun x14_ => mo_ret hle_rf))) _ hF
  obtain ⟨mc12, ms12, hmc12, hms12⟩ := up_of (moX2_applied n u11 x6_ r8 r11 _ e12)
  replace hc := cst_call hc hmc12 hms12
  refine h_callr (va_runV (As := [.ref r8, .ref r11]) (rest := []) ⟨hx, hb, hml, hown, hts⟩ (mgX2_applied l D A u11 n x6_ r8 r11 _ e12 mc12 ms12 hmc12 hms12) (cwV 2 hts (lw_V q1817 q1818 q1819 q102 q1820) rfl rfl rfl (by decide +kernel) ⟨Nat.le_of_ble_eq_true rfl, Nat.le_of_ble_eq_true rfl⟩) (h_preV hGr hr hS ec12 (by decide) (q := (RX2, TX2, 11)) rfl _) rfl rfl hl.1 rfl (lv_room (Nat.le_of_ble_eq_true rfl)) dX1_applied_46 ⟨(bud hc mm12 hmc hms).1, (bud hc mm12 hmc hms).2⟩) hS (fun rr uu H locs hw hr hS => ?_)
  obtain rfl : u12 = uu := (congrArg Prod.snd hw).symm
  obtain rfl : r12 = rr := (congrArg Prod.fst hw).symm
  obtain ⟨fs13, x13_, e13, f13, hF⟩ := gQ_s hF
  refine h_getN (C := RX4) (T := TX4) (N := 1) hx hb hts in_X4 hown hGr hr e13 (by decide) rfl 0 (by decide) (va_Nw.use rfl (hGr.nw q557 rfl)) (fun _ h9 => h9) f13 dX1_applied_49 ?_
  refine lv_iload_n hx hb dX1_applied_52 rfl (lv_at hl 4 rfl) ?_
  obtain ⟨n14, f14, e14, g14, hF⟩ := aI_s hF
  obtain ⟨x14_, ex14⟩ : ∃ z, z = f14 (p3).toNatClampNeg := ⟨_, rfl⟩
  rw [← ex14] at hF
  refine h_iald hx hb hGr hr 0 rfl e14 g14 dX1_applied_53 ?_
  rw [← ex14]
  have bz := bud_r hc hF hmc hms
  refine vx_ret ?_
  refine W.widen (k := mc) (n := ms) bz.1 bz.2 ?_
  exact W.iret (v := x14_) hx hb hret (fun t ht hWm => ⟨⟨x14_, u12, rfl, Option.some.inj hF, h_end hGr hr hS ht hWm⟩, hS.F ht⟩) hS.2.2 dX1_applied_54

def GX1_ended_1 (R : Nat → Hp → Nat → Int32 → Int32 → Int32 → Option ((Int32 ⊕ Xq) × Hp)) (n : Nat) (h : Hp) (b0 : Nat) (x1 : Int32) (x2 : Int32) (x3 : Int32) : Option ((Int32 ⊕ Xq) × Hp) := gQ h b0 1 0 (fun x3_ => gQ h x3_ 2 8 (fun x4_ => gC h x4_ 10 (bnd (GJ2_size h x4_) (fun r5 u5 => if r5 ≤ x3 then some (.inl x2, u5) else gQ u5 b0 1 0 (fun x7_ => gQ u5 x7_ 2 8 (fun x8_ => gC u5 x8_ 10 (bnd (GJ2_get u5 x8_ x3) (fun r9 u9 => gC u9 r9 7 (gC u9 r9 7 (bnd (GX8_cause u9 r9) (fun r11 u11 => if r11 = x1 then R 1 u11 b0 x1 (x2 + 1) (x3 + 1) else R 1 u11 b0 x1 (x2 + 0) (x3 + 1))))))))))))
def GX1_ended_r : Nat → Nat → Hp → Nat → Int32 → Int32 → Int32 → Option ((Int32 ⊕ Xq) × Hp)
  | 0 => fun _ _ _ _ _ _ => none
  | n + 1 => fun k => match k with  | _ => GX1_ended_1 (GX1_ended_r n) n
def GX1_ended_0 (R : Nat → Hp → Nat → Int32 → Int32 → Int32 → Option ((Int32 ⊕ Xq) × Hp)) (n : Nat) (h : Hp) (a0 : Nat) (p1 : Int32) : Option ((Int32 ⊕ Xq) × Hp) := bnd (GX1_inRange h ((p1).toInt64) (0 : Int64) (3 : Int64)) (fun r1 u1 => bnx (GX1_requireArgument u1 r1) (fun r2 u2 => R 1 u2 a0 p1 (0 : Int32) (0 : Int32)))
def GX1_ended (n : Nat) (h : Hp) (a0 : Nat) (p1 : Int32) : Option ((Int32 ⊕ Xq) × Hp) := GX1_ended_0 (GX1_ended_r n) n h a0 p1
theorem moX1_ended_r (n : Nat) : (∀ (h : Hp) (b0 : Nat) (x1 : Int32) (x2 : Int32) (x3 : Int32), Mo h (GX1_ended_r n 1 h b0 x1 x2 x3)) := by
  induction n with
  | zero => exact (fun _ _ _ _ _ => mo_no)
  | succ n ih =>
    have ml1 := ih
    exact (fun h b0 x1 x2 x3 => show Mo h (GX1_ended_1 (GX1_ended_r n) n h b0 x1 x2 x3) from by unfold GX1_ended_1; exact mo_gQ (fun x3_ => mo_gQ (fun x4_ => mo_gC (mo_bnd (moJ2_size h x4_) hle_rf (fun r5 u5 m5 => mo_ite (mo_ret m5) (mo_gQ (fun x7_ => mo_gQ (fun x8_ => mo_gC (mo_bnd (moJ2_get u5 x8_ x3) m5 (fun r9 u9 m9 => mo_gC (mo_gC (mo_bnd (moX8_cause u9 r9) m9 (fun r11 u11 m11 => mo_ite (mo_tr m11 (ml1 u11 b0 x1 (x2 + 1) (x3 + 1))) (mo_tr m11 (ml1 u11 b0 x1 (x2 + 0) (x3 + 1))))))))))))))))
theorem moX1_ended (n : Nat) (h : Hp) (a0 : Nat) (p1 : Int32) : Mo h (GX1_ended n h a0 p1) := by
  have ml1 := moX1_ended_r n
  unfold GX1_ended GX1_ended_0
  exact mo_bnd (moX1_inRange h ((p1).toInt64) (0 : Int64) (3 : Int64)) hle_rf (fun r1 u1 m1 => mo_bnx (moX1_requireArgument u1 r1) m1 (fun r2 u2 m2 => mo_tr m2 (ml1 u2 a0 p1 (0 : Int32) (0 : Int32))))
set_option maxHeartbeats 4000000 in
set_option maxRecDepth 100000 in
theorem mgX1_ended (l : Launch) (hl0 : l.stackTraces = false) (D : HD) (A : Nat → Prop) (h : Hp) (n : Nat) (a0 : Nat) (p1 : Int32) (out : (Int32 ⊕ Xq) × Hp) (hF : GX1_ended n h a0 p1 = some out) (mc ms : Nat) (hmc : hCc out.2 = hCc h + mc) (hms : hSl out.2 = hSl h + ms) : vx_Met l yX1_ended (ws_ yX1_ended cX1_ended 4 (some .int)) ({ frames := 7, cells := mc, slots := ms, locals := 120 }) (va_Pc [.ref a0, .int p1] (hW D A h)) (va_Qi (fun r u => ((.inl r : Int32 ⊕ Xq), u) = out) (hW D A) A) (xC D A out) mc ms A := by
  refine vx_ofW (cc := cX1_ended) (maxL := 4) (ret := (some .int)) (by decide +kernel) rfl ?_
  intro p e s m args below meth c s₁ B hml htb hv
  obtain ⟨rfl, hr, hGr⟩ := hv
  have hx := B.exec
  have hb := B.bytes
  have hret := B.returns
  have hts := atoms_spec (ws := (ws_ yX1_ended cX1_ended 4 (some .int))) B.pre
  have hts : ∀ w ∈ lw_all, w.before _ s = true := fun w h => hts w (List.mem_cons_of_mem _ h)
  have hown : s.vm.findClass RX1 = some m.cls := findClass_of_methodNamed B.named
  have hlocks := B.notSynchronized
  have hS : va_S A s.heap s.heap [] := va_S.rf
  have hc : cst h 0 0 h := cst_0
  have hl := lv_entry ([.ref a0, .int p1]) (n := 4) (Nat.le_of_ble_eq_true rfl)
  rw [lg_entry_eq]
  generalize (lg_sl ([.ref a0, .int p1]) ++ List.replicate (4 - (lg_sl ([.ref a0, .int p1])).length) Slot.unset).toArray = ls at hl ⊢
  have hl : lv_has ls 4 [(0, .ref a0), (1, .int p1)] := hl
  obtain ⟨h0, eh0⟩ : ∃ z, z = h := ⟨_, rfl⟩
  rw [← eh0] at hmc hms
  have loop : ∀ n : Nat, (∀ (h : Hp) (b0 : Nat) (x1 : Int32) (x2 : Int32) (x3 : Int32), GX1_ended_r n 1 h b0 x1 x2 x3 = some out → ∀ (H : Heap) (locs : List Loc) (cells slots : Nat), cst h0 cells slots h → hR D A h H → va_S A s.heap H locs → ∀ ls : Array Slot, lv_has ls 4 [(0, .ref b0), (1, .int x1), (2, .int x2), (3, .int x3)] → W p l e (headSpec (ws_ yX1_ended cX1_ended 4 (some .int)) ({ frames := 7, cells := mc, slots := ms, locals := 120 })).room s m ([.ref a0, .int p1] : List Value).toArray below meth c H locs cells slots (vx_MQ below (va_Qi (fun r u => ((.inl r : Int32 ⊕ Xq), u) = out) (hW D A) A) (xC D A out) ([.ref a0, .int p1] : List Value).toArray s mc ms A) (F0 m 16 ls [])) := by
    intro n
    induction n with
    | zero => exact (fun _ _ _ _ _ h => nomatch h)
    | succ n ih =>
      have lp1 := ih
      have ml1 := moX1_ended_r n
      intro h b0 x1 x2 x3 hF H locs cells slots hc hr hS ls hl
      replace hF : GX1_ended_1 (GX1_ended_r n) n h b0 x1 x2 x3 = some out := hF
      unfold GX1_ended_1 at hF
      refine lv_iload_n hx hb dX1_ended_16 rfl (lv_at hl 3 rfl) ?_
      refine lv_aload_n hx hb dX1_ended_17 rfl (lv_at hl 0 rfl) ?_
      obtain ⟨fs3, x3_, e3, f3, hF⟩ := gQ_s hF
      refine h_get (C := RX1) (T := TX1) (N := 7) hx hb hts in_X1 hown hGr hr e3 (by decide) rfl 0 (by decide) (hts _ q633) (fun _ h9 => h9) f3 dX1_ended_18 ?_
      obtain ⟨fs4, x4_, e4, f4, hF⟩ := gQ_s hF
      refine h_getN (C := RX2) (T := TX2) (N := 11) hx hb hts in_X2 hown hGr hr e4 (by decide) rfl 8 (by decide) (va_Nw.use rfl (hGr.nw q585 rfl)) (fun _ h9 => h9) f4 dX1_ended_21 ?_
      obtain ⟨fc5, ec5, hF⟩ := gC_s hF
      obtain ⟨r5, u5, e5, hF⟩ := bnd_s hF
      have mm5 : hle u5 out.2 := (show Mo u5 _ from mo_ite (mo_ret hle_rf) (mo_gQ (fun x7_ => mo_gQ (fun x8_ => mo_gC (mo_bnd (moJ2_get u5 x8_ x3) hle_rf (fun r9 u9 m9 => mo_gC (mo_gC (mo_bnd (moX8_cause u9 r9) m9 (fun r11 u11 m11 => mo_ite (mo_tr m11 (ml1 u11 b0 x1 (x2 + 1) (x3 + 1))) (mo_tr m11 (ml1 u11 b0 x1 (x2 + 0) (x3 + 1)))))))))))) _ hF
      obtain ⟨mc5, ms5, hmc5, hms5⟩ := up_of (moJ2_size h x4_ _ e5)
      replace hc := cst_call hc hmc5 hms5
      refine h_callFi (va_runF (hGr.K.1 10 _ rfl).2 (As := []) (rest := [.int x3]) ⟨hx, hb, hml, hown, hts⟩ (mgJ2_size l D A h x4_ _ e5 mc5 ms5 hmc5 hms5) (va_cwF 0 hts (lw_app (lw_fi q1068 q875 q877 q106) (lw_meth q879)) rfl rfl rfl (fw_5 hGr) (by decide +kernel) ⟨Nat.le_of_ble_eq_true rfl, Nat.le_of_ble_eq_true rfl⟩) (h_preV hGr hr hS ec5 (by decide) (q := (RJ2, TJ2, 3)) rfl _) rfl rfl hl.1 rfl (lv_room (Nat.le_of_ble_eq_true rfl)) dX1_ended_24 ⟨(bud hc mm5 hmc hms).1, (bud hc mm5 hmc hms).2⟩) hS (fun rr uu H locs hw hr hS => ?_)
      obtain rfl : u5 = uu := (congrArg Prod.snd hw).symm
      obtain rfl : r5 = rr := (congrArg Prod.fst hw).symm
      refine lv_icmp_ge (tgt := 69) hx hb dX1_ended_29 (by decide) (fun c6 => ?_) (fun c6 => ?_)
      · replace hF := it_t c6 hF
        refine lv_iload_n hx hb dX1_ended_69 rfl (lv_at hl 2 rfl) ?_
        have bz := bud_r hc hF hmc hms
        refine vx_ret ?_
        refine W.widen (k := mc) (n := ms) bz.1 bz.2 ?_
        exact W.iret (v := x2) hx hb hret (fun t ht hWm => ⟨⟨x2, u5, rfl, Option.some.inj hF, h_end hGr hr hS ht hWm⟩, hS.F ht⟩) hS.2.2 dX1_ended_70
      · replace hF := it_f c6 hF
        refine lv_iload_n hx hb dX1_ended_32 rfl (lv_at hl 2 rfl) ?_
        refine lv_aload_n hx hb dX1_ended_33 rfl (lv_at hl 0 rfl) ?_
        obtain ⟨fs7, x7_, e7, f7, hF⟩ := gQ_s hF
        refine h_get (C := RX1) (T := TX1) (N := 7) hx hb hts in_X1 hown hGr hr e7 (by decide) rfl 0 (by decide) (hts _ q633) (fun _ h9 => h9) f7 dX1_ended_34 ?_
        obtain ⟨fs8, x8_, e8, f8, hF⟩ := gQ_s hF
        refine h_getN (C := RX2) (T := TX2) (N := 11) hx hb hts in_X2 hown hGr hr e8 (by decide) rfl 8 (by decide) (va_Nw.use rfl (hGr.nw q585 rfl)) (fun _ h9 => h9) f8 dX1_ended_37 ?_
        refine lv_iload_n hx hb dX1_ended_40 rfl (lv_at hl 3 rfl) ?_
        obtain ⟨fc9, ec9, hF⟩ := gC_s hF
        obtain ⟨r9, u9, e9, hF⟩ := bnd_s hF
        have mm9 : hle u9 out.2 := (show Mo u9 _ from mo_gC (mo_gC (mo_bnd (moX8_cause u9 r9) hle_rf (fun r11 u11 m11 => mo_ite (mo_tr m11 (ml1 u11 b0 x1 (x2 + 1) (x3 + 1))) (mo_tr m11 (ml1 u11 b0 x1 (x2 + 0) (x3 + 1))))))) _ hF
        obtain ⟨mc9, ms9, hmc9, hms9⟩ := up_of (moJ2_get u5 x8_ x3 _ e9)
        replace hc := cst_call hc hmc9 hms9
        refine h_callFr (va_runF (hGr.K.1 10 _ rfl).2 (As := [.int x3]) (rest := [.int x2]) ⟨hx, hb, hml, hown, hts⟩ (mgJ2_get l D A u5 x8_ x3 _ e9 mc9 ms9 hmc9 hms9) (va_cwF 1 hts (lw_app (lw_fi q1276 q934 q936 q106) (lw_meth q938)) rfl rfl rfl (fw_7 hGr) (by decide +kernel) ⟨Nat.le_of_ble_eq_true rfl, Nat.le_of_ble_eq_true rfl⟩) (h_preV hGr hr hS ec9 (by decide) (q := (RJ2, TJ2, 3)) rfl _) rfl rfl hl.1 rfl (lv_room (Nat.le_of_ble_eq_true rfl)) dX1_ended_41 ⟨(bud hc mm9 hmc hms).1, (bud hc mm9 hmc hms).2⟩) hS (fun rr uu H locs hw hr hS => ?_)
        obtain rfl : u9 = uu := (congrArg Prod.snd hw).symm
        obtain rfl : r9 = rr := (congrArg Prod.fst hw).symm
        obtain ⟨fs10, e10, hF⟩ := gC_s hF
        refine h_cast hx hb hown (hts _ q1277) hGr hr e10 (by decide) (T := TX8) (N := 3) rfl dX1_ended_46 ?_
        obtain ⟨fc11, ec11, hF⟩ := gC_s hF
        obtain ⟨r11, u11, e11, hF⟩ := bnd_s hF
        have mm11 : hle u11 out.2 := (show Mo u11 _ from mo_ite (mo_tr hle_rf (ml1 u11 b0 x1 (x2 + 1) (x3 + 1))) (mo_tr hle_rf (ml1 u11 b0 x1 (x2 + 0) (x3 + 1)))) _ hF
        obtain ⟨mc11, ms11, hmc11, hms11⟩ := up_of (moX8_cause u9 r9 _ e11)
        replace hc := cst_call hc hmc11 hms11
        refine h_calli (va_runV (As := []) (rest := [.int x2]) ⟨hx, hb, hml, hown, hts⟩ (mgX8_cause l D A u9 r9 _ e11 mc11 ms11 hmc11 hms11) (cwV 0 hts (lw_V q1301 q997 q998 q139 q999) rfl rfl rfl (by decide +kernel) ⟨Nat.le_of_ble_eq_true rfl, Nat.le_of_ble_eq_true rfl⟩) (h_preV hGr hr hS ec11 (by decide) (q := (RX8, TX8, 3)) rfl _) rfl rfl hl.1 rfl (lv_room (Nat.le_of_ble_eq_true rfl)) dX1_ended_49 ⟨(bud hc mm11 hmc hms).1, (bud hc mm11 hmc hms).2⟩) hS (fun rr uu H locs hw hr hS => ?_)
        obtain rfl : u11 = uu := (congrArg Prod.snd hw).symm
        obtain rfl : r11 = rr := (congrArg Prod.fst hw).symm
        refine lv_iload_n hx hb dX1_ended_52 rfl (lv_at hl 1 rfl) ?_
        refine lv_icmp_ne (tgt := 60) hx hb dX1_ended_53 (by decide) (fun c12 => ?_) (fun c12 => ?_)
        · replace hF := it_f c12 hF
          refine lv_iconst (v := 0) hx hb dX1_ended_60 (by decide) ?_
          refine lv_iadd hx hb dX1_ended_61 ?_
          refine lv_istore_n (lv' := [(2, .int (x2 + 0)), (0, .ref b0), (1, .int x1), (3, .int x3)]) hx hb dX1_ended_62 rfl hl (by decide) rfl (fun ls hl => ?_)
          refine lv_iinc (v := (x3 + 1)) (lv' := [(3, .int (x3 + 1)), (2, .int (x2 + 0)), (0, .ref b0), (1, .int x1)]) hx hb dX1_ended_63 hl (k := 3) rfl rfl (by decide) rfl (fun ls hl => ?_)
          refine lv_goto (tgt := 16) hx hb dX1_ended_66 (by decide) ?_
          exact lp1 u11 b0 x1 (x2 + 0) (x3 + 1) hF _ _ _ _ hc hr hS ls (lv_sub hl [2, 3, 1, 0] rfl)
        · replace hF := it_t c12 hF
          refine lv_iconst (v := 1) hx hb dX1_ended_56 (by decide) ?_
          refine lv_goto (tgt := 61) hx hb dX1_ended_57 (by decide) ?_
          refine lv_iadd hx hb dX1_ended_61 ?_
          refine lv_istore_n (lv' := [(2, .int (x2 + 1)), (0, .ref b0), (1, .int x1), (3, .int x3)]) hx hb dX1_ended_62 rfl hl (by decide) rfl (fun ls hl => ?_)
          refine lv_iinc (v := (x3 + 1)) (lv' := [(3, .int (x3 + 1)), (2, .int (x2 + 1)), (0, .ref b0), (1, .int x1)]) hx hb dX1_ended_63 hl (k := 3) rfl rfl (by decide) rfl (fun ls hl => ?_)
          refine lv_goto (tgt := 16) hx hb dX1_ended_66 (by decide) ?_
          exact lp1 u11 b0 x1 (x2 + 1) (x3 + 1) hF _ _ _ _ hc hr hS ls (lv_sub hl [2, 3, 1, 0] rfl)
  have lp1 := loop n
  have ml1 := moX1_ended_r n
  have hc : cst h0 0 0 h := by rw [eh0]; exact cst_0
  unfold GX1_ended GX1_ended_0 at hF
  refine lv_iload_n hx hb dX1_ended_0 rfl (lv_at hl 1 rfl) ?_
  refine lv_i2l (v := (p1).toInt64) hx hb dX1_ended_1 rfl ?_
  refine lv_lconst (v := 0) hx hb dX1_ended_2 (by decide) ?_
  refine lv_ldc2 hx hb hown (hts _ q1828) dX1_ended_3 ?_
  obtain ⟨r1, u1, e1, hF⟩ := bnd_s hF
  have mm1 : hle u1 out.2 := (show Mo u1 _ from mo_bnx (moX1_requireArgument u1 r1) hle_rf (fun r2 u2 m2 => mo_tr m2 (ml1 u2 a0 p1 (0 : Int32) (0 : Int32)))) _ hF
  obtain ⟨mc1, ms1, hmc1, hms1⟩ := up_of (moX1_inRange h ((p1).toInt64) (0 : Int64) (3 : Int64) _ e1)
  replace hc := cst_call hc hmc1 hms1
  refine h_calli (va_runS (As := [.long ((p1).toInt64), .long (0 : Int64), .long (3 : Int64)]) (rest := []) ⟨hx, hb, hml, hown, hts⟩ (mgX1_inRange l D A h ((p1).toInt64) (0 : Int64) (3 : Int64) _ e1 mc1 ms1 hmc1 hms1) (va_cwS 3 hts (lw_S q1420 q1421 q101 q1422) rfl rfl rfl (by decide +kernel) ⟨Nat.le_of_ble_eq_true rfl, Nat.le_of_ble_eq_true rfl⟩) (h_preS hGr hr hS _) rfl rfl hl.1 rfl (lv_room (Nat.le_of_ble_eq_true rfl)) dX1_ended_6 ⟨(bud hc mm1 hmc hms).1, (bud hc mm1 hmc hms).2⟩) hS (fun rr uu H locs hw hr hS => ?_)
  obtain rfl : u1 = uu := (congrArg Prod.snd hw).symm
  obtain rfl : r1 = rr := (congrArg Prod.fst hw).symm
  rcases bnx_s hF with ⟨r2, u2, e2, hF⟩ | ⟨q2, u2, e2, hF⟩
  rotate_left
  · obtain ⟨mc2, ms2, hmc2, hms2⟩ := up_of (moX1_requireArgument u1 r1 _ e2)
    have hcx := cst_call hc hmc2 hms2
    have bx2 := bud_r hcx hF hmc hms
    refine h_xthrv rfl (vx_runS (As := [.int r1]) (rest := []) ⟨hx, hb, hml, hown, hts⟩ (mgX1_requireArgument l hl0 D A u1 r1 _ e2 mc2 ms2 hmc2 hms2) (va_cwS 1 hts (lw_S q1423 q1424 q101 q1425) rfl rfl rfl (by decide +kernel) ⟨Nat.le_of_ble_eq_true rfl, Nat.le_of_ble_eq_true rfl⟩) (h_preS hGr hr hS _) rfl rfl hl.1 rfl (lv_room (Nat.le_of_ble_eq_true rfl)) dX1_ended_9 ⟨bx2.1, bx2.2⟩) hS (fun E9 q9 u9 H locs ce9 e1 e2 e3 hr hS h1 h2 h3 => ?_)
    exact h_xpass hGr htb hlocks hF bx2 e1 e2 e3 hr hS h1 h2 h3
  have mm2 : hle u2 out.2 := (show Mo u2 _ from mo_tr hle_rf (ml1 u2 a0 p1 (0 : Int32) (0 : Int32))) _ hF
  obtain ⟨mc2, ms2, hmc2, hms2⟩ := up_of (moX1_requireArgument u1 r1 _ e2)
  replace hc := cst_call hc hmc2 hms2
  refine h_xretv rfl (vx_runS (As := [.int r1]) (rest := []) ⟨hx, hb, hml, hown, hts⟩ (mgX1_requireArgument l hl0 D A u1 r1 _ e2 mc2 ms2 hmc2 hms2) (va_cwS 1 hts (lw_S q1423 q1424 q101 q1425) rfl rfl rfl (by decide +kernel) ⟨Nat.le_of_ble_eq_true rfl, Nat.le_of_ble_eq_true rfl⟩) (h_preS hGr hr hS _) rfl rfl hl.1 rfl (lv_room (Nat.le_of_ble_eq_true rfl)) dX1_ended_9 ⟨(bud hc mm2 hmc hms).1, (bud hc mm2 hmc hms).2⟩) hS (fun H locs hr hS => ?_)
  refine lv_iconst (v := 0) hx hb dX1_ended_12 (by decide) ?_
  refine lv_istore_n (lv' := [(2, .int 0), (0, .ref a0), (1, .int p1)]) hx hb dX1_ended_13 rfl hl (by decide) rfl (fun ls hl => ?_)
  refine lv_iconst (v := 0) hx hb dX1_ended_14 (by decide) ?_
  refine lv_istore_n (lv' := [(3, .int 0), (2, .int 0), (0, .ref a0), (1, .int p1)]) hx hb dX1_ended_15 rfl hl (by decide) rfl (fun ls hl => ?_)
  exact lp1 u2 a0 p1 (0 : Int32) (0 : Int32) hF _ _ _ _ hc hr hS ls (lv_sub hl [2, 3, 1, 0] rfl)

def GX1_requireDirections_1 (R : Nat → Hp → Nat → Nat → Nat → Int32 → Int32 → Option ((Int32 ⊕ Xq) × Hp)) (n : Nat) (h : Hp) (b0 : Nat) (b1 : Nat) (b2 : Nat) (x3 : Int32) (x4 : Int32) : Option ((Int32 ⊕ Xq) × Hp) := if x3 ≤ x4 then some (.inl 0, h) else aI h b2 0 x4 (fun x3_ => gQ h b0 1 0 (fun x4_ => gQ h x4_ 2 7 (fun x5_ => gC h x5_ 10 (bnd (GJ2_size h x5_) (fun r6 u6 => bnx (GX1_requireIndex u6 x3_ r6) (fun r7 u7 => R 1 u7 b0 b1 b2 x3 (x4 + 1)))))))
def GX1_requireDirections_r : Nat → Nat → Hp → Nat → Nat → Nat → Int32 → Int32 → Option ((Int32 ⊕ Xq) × Hp)
  | 0 => fun _ _ _ _ _ _ _ => none
  | n + 1 => fun k => match k with  | _ => GX1_requireDirections_1 (GX1_requireDirections_r n) n
def GX1_requireDirections_0 (R : Nat → Hp → Nat → Nat → Nat → Int32 → Int32 → Option ((Int32 ⊕ Xq) × Hp)) (n : Nat) (h : Hp) (a0 : Nat) (a1 : Nat) : Option ((Int32 ⊕ Xq) × Hp) := aL h a1 (fun x1_ => R 1 h a0 a1 a1 x1_ (0 : Int32))
def GX1_requireDirections (n : Nat) (h : Hp) (a0 : Nat) (a1 : Nat) : Option ((Int32 ⊕ Xq) × Hp) := GX1_requireDirections_0 (GX1_requireDirections_r n) n h a0 a1
theorem moX1_requireDirections_r (n : Nat) : (∀ (h : Hp) (b0 : Nat) (b1 : Nat) (b2 : Nat) (x3 : Int32) (x4 : Int32), Mo h (GX1_requireDirections_r n 1 h b0 b1 b2 x3 x4)) := by
  induction n with
  | zero => exact (fun _ _ _ _ _ _ => mo_no)
  | succ n ih =>
    have ml1 := ih
    exact (fun h b0 b1 b2 x3 x4 => show Mo h (GX1_requireDirections_1 (GX1_requireDirections_r n) n h b0 b1 b2 x3 x4) from by unfold GX1_requireDirections_1; exact mo_ite (mo_ret hle_rf) (mo_aI (fun x3_ => mo_gQ (fun x4_ => mo_gQ (fun x5_ => mo_gC (mo_bnd (moJ2_size h x5_) hle_rf (fun r6 u6 m6 => mo_bnx (moX1_requireIndex u6 x3_ r6) m6 (fun r7 u7 m7 => mo_tr m7 (ml1 u7 b0 b1 b2 x3 (x4 + 1))))))))))
theorem moX1_requireDirections (n : Nat) (h : Hp) (a0 : Nat) (a1 : Nat) : Mo h (GX1_requireDirections n h a0 a1) := by
  have ml1 := moX1_requireDirections_r n
  unfold GX1_requireDirections GX1_requireDirections_0
  exact mo_aL (fun x1_ => mo_tr hle_rf (ml1 h a0 a1 a1 x1_ (0 : Int32)))
set_option maxHeartbeats 4000000 in
set_option maxRecDepth 100000 in
theorem mgX1_requireDirections (l : Launch) (hl0 : l.stackTraces = false) (D : HD) (A : Nat → Prop) (h : Hp) (n : Nat) (a0 : Nat) (a1 : Nat) (out : (Int32 ⊕ Xq) × Hp) (hF : GX1_requireDirections n h a0 a1 = some out) (mc ms : Nat) (hmc : hCc out.2 = hCc h + mc) (hms : hSl out.2 = hSl h + ms) : vx_Met l yX1_requireDirections (ws_ yX1_requireDirections cX1_requireDirections 6 none) ({ frames := 7, cells := mc, slots := ms, locals := 121 }) (va_Pc [.ref a0, .ref a1] (hW D A h)) (va_Qv (fun u => ((.inl 0 : Int32 ⊕ Xq), u) = out) (hW D A) A) (xC D A out) mc ms A := by
  refine vx_ofW (cc := cX1_requireDirections) (maxL := 6) (ret := none) (by decide +kernel) rfl ?_
  intro p e s m args below meth c s₁ B hml htb hv
  obtain ⟨rfl, hr, hGr⟩ := hv
  have hx := B.exec
  have hb := B.bytes
  have hret := B.returns
  have hts := atoms_spec (ws := (ws_ yX1_requireDirections cX1_requireDirections 6 none)) B.pre
  have hts : ∀ w ∈ lw_all, w.before _ s = true := fun w h => hts w (List.mem_cons_of_mem _ h)
  have hown : s.vm.findClass RX1 = some m.cls := findClass_of_methodNamed B.named
  have hlocks := B.notSynchronized
  have hS : va_S A s.heap s.heap [] := va_S.rf
  have hc : cst h 0 0 h := cst_0
  have hl := lv_entry ([.ref a0, .ref a1]) (n := 6) (Nat.le_of_ble_eq_true rfl)
  rw [lg_entry_eq]
  generalize (lg_sl ([.ref a0, .ref a1]) ++ List.replicate (6 - (lg_sl ([.ref a0, .ref a1])).length) Slot.unset).toArray = ls at hl ⊢
  have hl : lv_has ls 6 [(0, .ref a0), (1, .ref a1)] := hl
  obtain ⟨h0, eh0⟩ : ∃ z, z = h := ⟨_, rfl⟩
  rw [← eh0] at hmc hms
  have loop : ∀ n : Nat, (∀ (h : Hp) (b0 : Nat) (b1 : Nat) (b2 : Nat) (x3 : Int32) (x4 : Int32), GX1_requireDirections_r n 1 h b0 b1 b2 x3 x4 = some out → ∀ (H : Heap) (locs : List Loc) (cells slots : Nat), cst h0 cells slots h → hR D A h H → va_S A s.heap H locs → ∀ ls : Array Slot, lv_has ls 6 [(0, .ref b0), (1, .ref b1), (2, .ref b2), (3, .int x3), (4, .int x4)] → W p l e (headSpec (ws_ yX1_requireDirections cX1_requireDirections 6 none) ({ frames := 7, cells := mc, slots := ms, locals := 121 })).room s m ([.ref a0, .ref a1] : List Value).toArray below meth c H locs cells slots (vx_MQ below (va_Qv (fun u => ((.inl 0 : Int32 ⊕ Xq), u) = out) (hW D A) A) (xC D A out) ([.ref a0, .ref a1] : List Value).toArray s mc ms A) (F0 m 8 ls [])) := by
    intro n
    induction n with
    | zero => exact (fun _ _ _ _ _ _ h => nomatch h)
    | succ n ih =>
      have lp1 := ih
      have ml1 := moX1_requireDirections_r n
      intro h b0 b1 b2 x3 x4 hF H locs cells slots hc hr hS ls hl
      replace hF : GX1_requireDirections_1 (GX1_requireDirections_r n) n h b0 b1 b2 x3 x4 = some out := hF
      unfold GX1_requireDirections_1 at hF
      refine lv_iload hx hb dX1_requireDirections_8 (lv_at hl 4 rfl) ?_
      refine lv_iload_n hx hb dX1_requireDirections_10 rfl (lv_at hl 3 rfl) ?_
      refine lv_icmp_ge (tgt := 43) hx hb dX1_requireDirections_11 (by decide) (fun c2 => ?_) (fun c2 => ?_)
      · replace hF := it_t c2 hF
        have bz := bud_r hc hF hmc hms
        refine vx_ret ?_
        refine W.widen (k := mc) (n := ms) bz.1 bz.2 ?_
        exact W.vret hx hb hret (fun t ht hWm => ⟨⟨h, rfl, Option.some.inj hF, h_end hGr hr hS ht hWm⟩, hS.F ht⟩) hS.2.2 dX1_requireDirections_43
      · replace hF := it_f c2 hF
        refine lv_aload_n hx hb dX1_requireDirections_14 rfl (lv_at hl 2 rfl) ?_
        refine lv_iload hx hb dX1_requireDirections_15 (lv_at hl 4 rfl) ?_
        obtain ⟨n3, f3, e3, g3, hF⟩ := aI_s hF
        obtain ⟨x3_, ex3⟩ : ∃ z, z = f3 (x4).toNatClampNeg := ⟨_, rfl⟩
        rw [← ex3] at hF
        refine h_iald hx hb hGr hr 0 rfl e3 g3 dX1_requireDirections_17 ?_
        rw [← ex3]
        refine lv_istore (lv' := [(5, .int x3_), (0, .ref b0), (1, .ref b1), (2, .ref b2), (3, .int x3), (4, .int x4)]) hx hb dX1_requireDirections_18 hl (by decide) rfl (fun ls hl => ?_)
        refine lv_iload hx hb dX1_requireDirections_20 (lv_at hl 0 rfl) ?_
        refine lv_aload_n hx hb dX1_requireDirections_22 rfl (lv_at hl 1 rfl) ?_
        obtain ⟨fs4, x4_, e4, f4, hF⟩ := gQ_s hF
        refine h_get (C := RX1) (T := TX1) (N := 7) hx hb hts in_X1 hown hGr hr e4 (by decide) rfl 0 (by decide) (hts _ q633) (fun _ h9 => h9) f4 dX1_requireDirections_23 ?_
        obtain ⟨fs5, x5_, e5, f5, hF⟩ := gQ_s hF
        refine h_getN (C := RX2) (T := TX2) (N := 11) hx hb hts in_X2 hown hGr hr e5 (by decide) rfl 7 (by decide) (va_Nw.use rfl (hGr.nw q583 rfl)) (fun _ h9 => h9) f5 dX1_requireDirections_26 ?_
        obtain ⟨fc6, ec6, hF⟩ := gC_s hF
        obtain ⟨r6, u6, e6, hF⟩ := bnd_s hF
        have mm6 : hle u6 out.2 := (show Mo u6 _ from mo_bnx (moX1_requireIndex u6 x3_ r6) hle_rf (fun r7 u7 m7 => mo_tr m7 (ml1 u7 b0 b1 b2 x3 (x4 + 1)))) _ hF
        obtain ⟨mc6, ms6, hmc6, hms6⟩ := up_of (moJ2_size h x5_ _ e6)
        replace hc := cst_call hc hmc6 hms6
        refine h_callFi (va_runF (hGr.K.1 10 _ rfl).2 (As := []) (rest := [.int x3_]) ⟨hx, hb, hml, hown, hts⟩ (mgJ2_size l D A h x5_ _ e6 mc6 ms6 hmc6 hms6) (va_cwF 0 hts (lw_app (lw_fi q1068 q875 q877 q106) (lw_meth q879)) rfl rfl rfl (fw_5 hGr) (by decide +kernel) ⟨Nat.le_of_ble_eq_true rfl, Nat.le_of_ble_eq_true rfl⟩) (h_preV hGr hr hS ec6 (by decide) (q := (RJ2, TJ2, 3)) rfl _) rfl rfl hl.1 rfl (lv_room (Nat.le_of_ble_eq_true rfl)) dX1_requireDirections_29 ⟨(bud hc mm6 hmc hms).1, (bud hc mm6 hmc hms).2⟩) hS (fun rr uu H locs hw hr hS => ?_)
        obtain rfl : u6 = uu := (congrArg Prod.snd hw).symm
        obtain rfl : r6 = rr := (congrArg Prod.fst hw).symm
        rcases bnx_s hF with ⟨r7, u7, e7, hF⟩ | ⟨q7, u7, e7, hF⟩
        rotate_left
        · obtain ⟨mc7, ms7, hmc7, hms7⟩ := up_of (moX1_requireIndex u6 x3_ r6 _ e7)
          have hcx := cst_call hc hmc7 hms7
          have bx7 := bud_r hcx hF hmc hms
          refine h_xthrv rfl (vx_runS (As := [.int x3_, .int r6]) (rest := []) ⟨hx, hb, hml, hown, hts⟩ (mgX1_requireIndex l hl0 D A u6 x3_ r6 _ e7 mc7 ms7 hmc7 hms7) (va_cwS 2 hts (lw_S q1693 q1694 q101 q1695) rfl rfl rfl (by decide +kernel) ⟨Nat.le_of_ble_eq_true rfl, Nat.le_of_ble_eq_true rfl⟩) (h_preS hGr hr hS _) rfl rfl hl.1 rfl (lv_room (Nat.le_of_ble_eq_true rfl)) dX1_requireDirections_34 ⟨bx7.1, bx7.2⟩) hS (fun E9 q9 u9 H locs ce9 e1 e2 e3 hr hS h1 h2 h3 => ?_)
          exact h_xpass hGr htb hlocks hF bx7 e1 e2 e3 hr hS h1 h2 h3
        have mm7 : hle u7 out.2 := (show Mo u7 _ from mo_tr hle_rf (ml1 u7 b0 b1 b2 x3 (x4 + 1))) _ hF
        obtain ⟨mc7, ms7, hmc7, hms7⟩ := up_of (moX1_requireIndex u6 x3_ r6 _ e7)
        replace hc := cst_call hc hmc7 hms7
        refine h_xretv rfl (vx_runS (As := [.int x3_, .int r6]) (rest := []) ⟨hx, hb, hml, hown, hts⟩ (mgX1_requireIndex l hl0 D A u6 x3_ r6 _ e7 mc7 ms7 hmc7 hms7) (va_cwS 2 hts (lw_S q1693 q1694 q101 q1695) rfl rfl rfl (by decide +kernel) ⟨Nat.le_of_ble_eq_true rfl, Nat.le_of_ble_eq_true rfl⟩) (h_preS hGr hr hS _) rfl rfl hl.1 rfl (lv_room (Nat.le_of_ble_eq_true rfl)) dX1_requireDirections_34 ⟨(bud hc mm7 hmc hms).1, (bud hc mm7 hmc hms).2⟩) hS (fun H locs hr hS => ?_)
        refine lv_iinc (v := (x4 + 1)) (lv' := [(4, .int (x4 + 1)), (5, .int x3_), (0, .ref b0), (1, .ref b1), (2, .ref b2), (3, .int x3)]) hx hb dX1_requireDirections_37 hl (k := 5) rfl rfl (by decide) rfl (fun ls hl => ?_)
        refine lv_goto (tgt := 8) hx hb dX1_requireDirections_40 (by decide) ?_
        exact lp1 u7 b0 b1 b2 x3 (x4 + 1) hF _ _ _ _ hc hr hS ls (lv_sub hl [2, 3, 4, 5, 0] rfl)
  have lp1 := loop n
  have ml1 := moX1_requireDirections_r n
  have hc : cst h0 0 0 h := by rw [eh0]; exact cst_0
  unfold GX1_requireDirections GX1_requireDirections_0 at hF
  refine lv_aload_n hx hb dX1_requireDirections_0 rfl (lv_at hl 1 rfl) ?_
  refine lv_astore_n (lv' := [(2, .ref a1), (0, .ref a0), (1, .ref a1)]) hx hb dX1_requireDirections_1 rfl hl (by decide) rfl (fun ls hl => ?_)
  refine lv_aload_n hx hb dX1_requireDirections_2 rfl (lv_at hl 0 rfl) ?_
  obtain ⟨k1, y1, e1, g1, hF⟩ := aL_s hF
  obtain ⟨x1_, ex1⟩ : ∃ z, z = Int32.ofNat y1.1 := ⟨_, rfl⟩
  rw [← ex1] at hF
  refine h_alen hx hb hGr hr e1 g1 dX1_requireDirections_3 ?_
  rw [← ex1]
  refine lv_istore_n (lv' := [(3, .int x1_), (2, .ref a1), (0, .ref a0), (1, .ref a1)]) hx hb dX1_requireDirections_4 rfl hl (by decide) rfl (fun ls hl => ?_)
  refine lv_iconst (v := 0) hx hb dX1_requireDirections_5 (by decide) ?_
  refine lv_istore (lv' := [(4, .int 0), (3, .int x1_), (2, .ref a1), (0, .ref a0), (1, .ref a1)]) hx hb dX1_requireDirections_6 hl (by decide) rfl (fun ls hl => ?_)
  exact lp1 h a0 a1 a1 x1_ (0 : Int32) hF _ _ _ _ hc hr hS ls (lv_sub hl [3, 4, 2, 1, 0] rfl)

def GX1_direction (n : Nat) (h : Hp) (a0 : Nat) (p1 : Int32) (p2 : Int32) : Option ((Int32 ⊕ Xq) × Hp) := nA h 0 (1 : Int32) (fun a1_ h1 => sI h1 a1_ 0 (0 : Int32) p1 (fun h2 => gC h2 a0 1 (bnx (GX1_requireDirections n h2 a0 a1_) (fun r3 u3 => nA u3 0 (1 : Int32) (fun a4_ h4 => sI h4 a4_ 0 (0 : Int32) p2 (fun h5 => gC h5 a0 1 (bnx (GX1_requirePlaces n h5 a0 a4_) (fun r6 u6 => gQ u6 a0 1 0 (fun x7_ => gC u6 x7_ 2 (bnd (GX2_vector u6 x7_ p1) (fun r8 u8 => gQ u8 r8 4 0 (fun x9_ => aI u8 x9_ 0 p2 (fun x10_ => some (.inl x10_, u8))))))))))))))
theorem moX1_direction (n : Nat) (h : Hp) (a0 : Nat) (p1 : Int32) (p2 : Int32) : Mo h (GX1_direction n h a0 p1 p2) := by
  unfold GX1_direction
  exact mo_nA hle_rf (fun a1_ h1 m1 => mo_sI m1 (fun h2 m2 => mo_gC (mo_bnx (moX1_requireDirections n h2 a0 a1_) m2 (fun r3 u3 m3 => mo_nA m3 (fun a4_ h4 m4 => mo_sI m4 (fun h5 m5 => mo_gC (mo_bnx (moX1_requirePlaces n h5 a0 a4_) m5 (fun r6 u6 m6 => mo_gQ (fun x7_ => mo_gC (mo_bnd (moX2_vector u6 x7_ p1) m6 (fun r8 u8 m8 => mo_gQ (fun x9_ => mo_aI (fun x10_ => mo_ret m8)))))))))))))
set_option maxHeartbeats 4000000 in
set_option maxRecDepth 100000 in
theorem mgX1_direction (l : Launch) (hl0 : l.stackTraces = false) (D : HD) (A : Nat → Prop) (h : Hp) (n : Nat) (a0 : Nat) (p1 : Int32) (p2 : Int32) (out : (Int32 ⊕ Xq) × Hp) (hF : GX1_direction n h a0 p1 p2 = some out) (mc ms : Nat) (hmc : hCc out.2 = hCc h + mc) (hms : hSl out.2 = hSl h + ms) : vx_Met l yX1_direction (ws_ yX1_direction cX1_direction 3 (some .int)) ({ frames := 8, cells := mc, slots := ms, locals := 146 }) (va_Pc [.ref a0, .int p1, .int p2] (hW D A h)) (va_Qi (fun r u => ((.inl r : Int32 ⊕ Xq), u) = out) (hW D A) A) (xC D A out) mc ms A := by
  refine vx_ofW (cc := cX1_direction) (maxL := 3) (ret := (some .int)) (by decide +kernel) rfl ?_
  intro p e s m args below meth c s₁ B hml htb hv
  obtain ⟨rfl, hr, hGr⟩ := hv
  have hx := B.exec
  have hb := B.bytes
  have hret := B.returns
  have hts := atoms_spec (ws := (ws_ yX1_direction cX1_direction 3 (some .int))) B.pre
  have hts : ∀ w ∈ lw_all, w.before _ s = true := fun w h => hts w (List.mem_cons_of_mem _ h)
  have hown : s.vm.findClass RX1 = some m.cls := findClass_of_methodNamed B.named
  have hlocks := B.notSynchronized
  have hS : va_S A s.heap s.heap [] := va_S.rf
  have hc : cst h 0 0 h := cst_0
  have hl := lv_entry ([.ref a0, .int p1, .int p2]) (n := 3) (Nat.le_of_ble_eq_true rfl)
  rw [lg_entry_eq]
  generalize (lg_sl ([.ref a0, .int p1, .int p2]) ++ List.replicate (3 - (lg_sl ([.ref a0, .int p1, .int p2])).length) Slot.unset).toArray = ls at hl ⊢
  have hl : lv_has ls 3 [(0, .ref a0), (1, .int p1), (2, .int p2)] := hl
  unfold GX1_direction at hF
  refine lv_aload_n hx hb dX1_direction_0 rfl (lv_at hl 0 rfl) ?_
  refine lv_iconst (v := 1) hx hb dX1_direction_1 (by decide) ?_
  obtain ⟨a1_, h1, ea1, eh1, g1, hF⟩ := nA_s hF
  have mm1 : hle h1 out.2 := (show Mo h1 _ from mo_sI hle_rf (fun h2 m2 => mo_gC (mo_bnx (moX1_requireDirections n h2 a0 a1_) m2 (fun r3 u3 m3 => mo_nA m3 (fun a4_ h4 m4 => mo_sI m4 (fun h5 m5 => mo_gC (mo_bnx (moX1_requirePlaces n h5 a0 a4_) m5 (fun r6 u6 m6 => mo_gQ (fun x7_ => mo_gC (mo_bnd (moX2_vector u6 x7_ p1) m6 (fun r8 u8 m8 => mo_gQ (fun x9_ => mo_aI (fun x10_ => mo_ret m8))))))))))))) _ hF
  replace hc := cst_new hc eh1
  refine h_newI hx hb (hts _ q177) hGr hr hS g1 (bud hc mm1 hmc hms).1 (bud hc mm1 hmc hms).2 dX1_direction_2 (fun H hr hS => ?_)
  rw [← eh1] at hr
  rw [← ea1]
  refine lv_dup hx hb dX1_direction_4 rfl ?_
  refine lv_iconst (v := 0) hx hb dX1_direction_5 (by decide) ?_
  refine lv_iload_n hx hb dX1_direction_6 rfl (lv_at hl 1 rfl) ?_
  obtain ⟨n2, f2, e2, lo2, g2, hF⟩ := sI_s hF
  obtain ⟨h2, eh2⟩ : ∃ z, z = hPut h1 a1_ (.inl (0, n2, .inl (upd f2 ((0 : Int32)).toNatClampNeg p1))) := ⟨_, rfl⟩
  rw [← eh2] at hF
  refine h_iast hx hb hGr hr hS 0 rfl e2 (x := p1) g2 lo2 dX1_direction_7 (fun H locs hr hS => ?_)
  rw [← eh2] at hr
  replace hc := cst_put hc eh2
  obtain ⟨fc3, ec3, hF⟩ := gC_s hF
  rcases bnx_s hF with ⟨r3, u3, e3, hF⟩ | ⟨q3, u3, e3, hF⟩
  rotate_left
  · obtain ⟨mc3, ms3, hmc3, hms3⟩ := up_of (moX1_requireDirections n h2 a0 a1_ _ e3)
    have hcx := cst_call hc hmc3 hms3
    have bx3 := bud_r hcx hF hmc hms
    refine h_xthrv rfl (vx_runV (As := [.ref a1_]) (rest := []) ⟨hx, hb, hml, hown, hts⟩ (mgX1_requireDirections l hl0 D A h2 n a0 a1_ _ e3 mc3 ms3 hmc3 hms3) (cwV 1 hts (lw_V q1836 q1838 qs42 q101 q1839) rfl rfl rfl (by decide +kernel) ⟨Nat.le_of_ble_eq_true rfl, Nat.le_of_ble_eq_true rfl⟩) (h_preV hGr hr hS ec3 (by decide) (q := (RX1, TX1, 7)) rfl _) rfl rfl hl.1 rfl (lv_room (Nat.le_of_ble_eq_true rfl)) dX1_direction_8 ⟨bx3.1, bx3.2⟩) hS (fun E9 q9 u9 H locs ce9 e1 e2 e3 hr hS h1 h2 h3 => ?_)
    exact h_xpass hGr htb hlocks hF bx3 e1 e2 e3 hr hS h1 h2 h3
  have mm3 : hle u3 out.2 := (show Mo u3 _ from mo_nA hle_rf (fun a4_ h4 m4 => mo_sI m4 (fun h5 m5 => mo_gC (mo_bnx (moX1_requirePlaces n h5 a0 a4_) m5 (fun r6 u6 m6 => mo_gQ (fun x7_ => mo_gC (mo_bnd (moX2_vector u6 x7_ p1) m6 (fun r8 u8 m8 => mo_gQ (fun x9_ => mo_aI (fun x10_ => mo_ret m8)))))))))) _ hF
  obtain ⟨mc3, ms3, hmc3, hms3⟩ := up_of (moX1_requireDirections n h2 a0 a1_ _ e3)
  replace hc := cst_call hc hmc3 hms3
  refine h_xretv rfl (vx_runV (As := [.ref a1_]) (rest := []) ⟨hx, hb, hml, hown, hts⟩ (mgX1_requireDirections l hl0 D A h2 n a0 a1_ _ e3 mc3 ms3 hmc3 hms3) (cwV 1 hts (lw_V q1836 q1838 qs42 q101 q1839) rfl rfl rfl (by decide +kernel) ⟨Nat.le_of_ble_eq_true rfl, Nat.le_of_ble_eq_true rfl⟩) (h_preV hGr hr hS ec3 (by decide) (q := (RX1, TX1, 7)) rfl _) rfl rfl hl.1 rfl (lv_room (Nat.le_of_ble_eq_true rfl)) dX1_direction_8 ⟨(bud hc mm3 hmc hms).1, (bud hc mm3 hmc hms).2⟩) hS (fun H locs hr hS => ?_)
  refine lv_aload_n hx hb dX1_direction_11 rfl (lv_at hl 0 rfl) ?_
  refine lv_iconst (v := 1) hx hb dX1_direction_12 (by decide) ?_
  obtain ⟨a4_, h4, ea4, eh4, g4, hF⟩ := nA_s hF
  have mm4 : hle h4 out.2 := (show Mo h4 _ from mo_sI hle_rf (fun h5 m5 => mo_gC (mo_bnx (moX1_requirePlaces n h5 a0 a4_) m5 (fun r6 u6 m6 => mo_gQ (fun x7_ => mo_gC (mo_bnd (moX2_vector u6 x7_ p1) m6 (fun r8 u8 m8 => mo_gQ (fun x9_ => mo_aI (fun x10_ => mo_ret m8))))))))) _ hF
  replace hc := cst_new hc eh4
  refine h_newI hx hb (hts _ q177) hGr hr hS g4 (bud hc mm4 hmc hms).1 (bud hc mm4 hmc hms).2 dX1_direction_13 (fun H hr hS => ?_)
  rw [← eh4] at hr
  rw [← ea4]
  refine lv_dup hx hb dX1_direction_15 rfl ?_
  refine lv_iconst (v := 0) hx hb dX1_direction_16 (by decide) ?_
  refine lv_iload_n hx hb dX1_direction_17 rfl (lv_at hl 2 rfl) ?_
  obtain ⟨n5, f5, e5, lo5, g5, hF⟩ := sI_s hF
  obtain ⟨h5, eh5⟩ : ∃ z, z = hPut h4 a4_ (.inl (0, n5, .inl (upd f5 ((0 : Int32)).toNatClampNeg p2))) := ⟨_, rfl⟩
  rw [← eh5] at hF
  refine h_iast hx hb hGr hr hS 0 rfl e5 (x := p2) g5 lo5 dX1_direction_18 (fun H locs hr hS => ?_)
  rw [← eh5] at hr
  replace hc := cst_put hc eh5
  obtain ⟨fc6, ec6, hF⟩ := gC_s hF
  rcases bnx_s hF with ⟨r6, u6, e6, hF⟩ | ⟨q6, u6, e6, hF⟩
  rotate_left
  · obtain ⟨mc6, ms6, hmc6, hms6⟩ := up_of (moX1_requirePlaces n h5 a0 a4_ _ e6)
    have hcx := cst_call hc hmc6 hms6
    have bx6 := bud_r hcx hF hmc hms
    refine h_xthrv rfl (vx_runV (As := [.ref a4_]) (rest := []) ⟨hx, hb, hml, hown, hts⟩ (mgX1_requirePlaces l hl0 D A h5 n a0 a4_ _ e6 mc6 ms6 hmc6 hms6) (cwV 1 hts (lw_V q1689 q1691 qs38 q101 q1692) rfl rfl rfl (by decide +kernel) ⟨Nat.le_of_ble_eq_true rfl, Nat.le_of_ble_eq_true rfl⟩) (h_preV hGr hr hS ec6 (by decide) (q := (RX1, TX1, 7)) rfl _) rfl rfl hl.1 rfl (lv_room (Nat.le_of_ble_eq_true rfl)) dX1_direction_19 ⟨bx6.1, bx6.2⟩) hS (fun E9 q9 u9 H locs ce9 e1 e2 e3 hr hS h1 h2 h3 => ?_)
    exact h_xpass hGr htb hlocks hF bx6 e1 e2 e3 hr hS h1 h2 h3
  have mm6 : hle u6 out.2 := (show Mo u6 _ from mo_gQ (fun x7_ => mo_gC (mo_bnd (moX2_vector u6 x7_ p1) hle_rf (fun r8 u8 m8 => mo_gQ (fun x9_ => mo_aI (fun x10_ => mo_ret m8)))))) _ hF
  obtain ⟨mc6, ms6, hmc6, hms6⟩ := up_of (moX1_requirePlaces n h5 a0 a4_ _ e6)
  replace hc := cst_call hc hmc6 hms6
  refine h_xretv rfl (vx_runV (As := [.ref a4_]) (rest := []) ⟨hx, hb, hml, hown, hts⟩ (mgX1_requirePlaces l hl0 D A h5 n a0 a4_ _ e6 mc6 ms6 hmc6 hms6) (cwV 1 hts (lw_V q1689 q1691 qs38 q101 q1692) rfl rfl rfl (by decide +kernel) ⟨Nat.le_of_ble_eq_true rfl, Nat.le_of_ble_eq_true rfl⟩) (h_preV hGr hr hS ec6 (by decide) (q := (RX1, TX1, 7)) rfl _) rfl rfl hl.1 rfl (lv_room (Nat.le_of_ble_eq_true rfl)) dX1_direction_19 ⟨(bud hc mm6 hmc hms).1, (bud hc mm6 hmc hms).2⟩) hS (fun H locs hr hS => ?_)
  refine lv_aload_n hx hb dX1_direction_22 rfl (lv_at hl 0 rfl) ?_
  obtain ⟨fs7, x7_, e7, f7, hF⟩ := gQ_s hF
  refine h_get (C := RX1) (T := TX1) (N := 7) hx hb hts in_X1 hown hGr hr e7 (by decide) rfl 0 (by decide) (hts _ q633) (fun _ h9 => h9) f7 dX1_direction_23 ?_
  refine lv_iload_n hx hb dX1_direction_26 rfl (lv_at hl 1 rfl) ?_
  obtain ⟨fc8, ec8, hF⟩ := gC_s hF
  obtain ⟨r8, u8, e8, hF⟩ := bnd_s hF
  have mm8 : hle u8 out.2 := (show Mo u8 _ from mo_gQ (fun x9_ => mo_aI (fun x10_ => mo_ret hle_rf))) _ hF
  obtain ⟨mc8, ms8, hmc8, hms8⟩ := up_of (moX2_vector u6 x7_ p1 _ e8)
  replace hc := cst_call hc hmc8 hms8
  refine h_callr (va_runV (As := [.int p1]) (rest := []) ⟨hx, hb, hml, hown, hts⟩ (mgX2_vector l D A u6 x7_ p1 _ e8 mc8 ms8 hmc8 hms8) (cwV 1 hts (lw_V q1077 q1014 q1015 q102 q1016) rfl rfl rfl (by decide +kernel) ⟨Nat.le_of_ble_eq_true rfl, Nat.le_of_ble_eq_true rfl⟩) (h_preV hGr hr hS ec8 (by decide) (q := (RX2, TX2, 11)) rfl _) rfl rfl hl.1 rfl (lv_room (Nat.le_of_ble_eq_true rfl)) dX1_direction_27 ⟨(bud hc mm8 hmc hms).1, (bud hc mm8 hmc hms).2⟩) hS (fun rr uu H locs hw hr hS => ?_)
  obtain rfl : u8 = uu := (congrArg Prod.snd hw).symm
  obtain rfl : r8 = rr := (congrArg Prod.fst hw).symm
  obtain ⟨fs9, x9_, e9, f9, hF⟩ := gQ_s hF
  refine h_getN (C := RX4) (T := TX4) (N := 1) hx hb hts in_X4 hown hGr hr e9 (by decide) rfl 0 (by decide) (va_Nw.use rfl (hGr.nw q557 rfl)) (fun _ h9 => h9) f9 dX1_direction_30 ?_
  refine lv_iload_n hx hb dX1_direction_33 rfl (lv_at hl 2 rfl) ?_
  obtain ⟨n10, f10, e10, g10, hF⟩ := aI_s hF
  obtain ⟨x10_, ex10⟩ : ∃ z, z = f10 (p2).toNatClampNeg := ⟨_, rfl⟩
  rw [← ex10] at hF
  refine h_iald hx hb hGr hr 0 rfl e10 g10 dX1_direction_34 ?_
  rw [← ex10]
  have bz := bud_r hc hF hmc hms
  refine vx_ret ?_
  refine W.widen (k := mc) (n := ms) bz.1 bz.2 ?_
  exact W.iret (v := x10_) hx hb hret (fun t ht hWm => ⟨⟨x10_, u8, rfl, Option.some.inj hF, h_end hGr hr hS ht hWm⟩, hS.F ht⟩) hS.2.2 dX1_direction_35

def GX1_chainOf (n : Nat) (h : Hp) (a0 : Nat) (p1 : Int32) : Option ((Int32 ⊕ Xq) × Hp) := nA h 0 (1 : Int32) (fun a1_ h1 => sI h1 a1_ 0 (0 : Int32) p1 (fun h2 => gC h2 a0 1 (bnx (GX1_requireDirections n h2 a0 a1_) (fun r3 u3 => gQ u3 a0 1 0 (fun x4_ => gQ u3 x4_ 2 7 (fun x5_ => gC u3 x5_ 10 (bnd (GJ2_get u3 x5_ p1) (fun r6 u6 => gC u6 r6 8 (gC u6 r6 8 (bnd (GX9_chain u6 r6) (fun r8 u8 => some (.inl r8, u8))))))))))))
theorem moX1_chainOf (n : Nat) (h : Hp) (a0 : Nat) (p1 : Int32) : Mo h (GX1_chainOf n h a0 p1) := by
  unfold GX1_chainOf
  exact mo_nA hle_rf (fun a1_ h1 m1 => mo_sI m1 (fun h2 m2 => mo_gC (mo_bnx (moX1_requireDirections n h2 a0 a1_) m2 (fun r3 u3 m3 => mo_gQ (fun x4_ => mo_gQ (fun x5_ => mo_gC (mo_bnd (moJ2_get u3 x5_ p1) m3 (fun r6 u6 m6 => mo_gC (mo_gC (mo_bnd (moX9_chain u6 r6) m6 (fun r8 u8 m8 => mo_ret m8)))))))))))
set_option maxHeartbeats 4000000 in
set_option maxRecDepth 100000 in
theorem mgX1_chainOf (l : Launch) (hl0 : l.stackTraces = false) (D : HD) (A : Nat → Prop) (h : Hp) (n : Nat) (a0 : Nat) (p1 : Int32) (out : (Int32 ⊕ Xq) × Hp) (hF : GX1_chainOf n h a0 p1 = some out) (mc ms : Nat) (hmc : hCc out.2 = hCc h + mc) (hms : hSl out.2 = hSl h + ms) : vx_Met l yX1_chainOf (ws_ yX1_chainOf cX1_chainOf 2 (some .int)) ({ frames := 8, cells := mc, slots := ms, locals := 146 }) (va_Pc [.ref a0, .int p1] (hW D A h)) (va_Qi (fun r u => ((.inl r : Int32 ⊕ Xq), u) = out) (hW D A) A) (xC D A out) mc ms A := by
  refine vx_ofW (cc := cX1_chainOf) (maxL := 2) (ret := (some .int)) (by decide +kernel) rfl ?_
  intro p e s m args below meth c s₁ B hml htb hv
  obtain ⟨rfl, hr, hGr⟩ := hv
  have hx := B.exec
  have hb := B.bytes
  have hret := B.returns
  have hts := atoms_spec (ws := (ws_ yX1_chainOf cX1_chainOf 2 (some .int))) B.pre
  have hts : ∀ w ∈ lw_all, w.before _ s = true := fun w h => hts w (List.mem_cons_of_mem _ h)
  have hown : s.vm.findClass RX1 = some m.cls := findClass_of_methodNamed B.named
  have hlocks := B.notSynchronized
  have hS : va_S A s.heap s.heap [] := va_S.rf
  have hc : cst h 0 0 h := cst_0
  have hl := lv_entry ([.ref a0, .int p1]) (n := 2) (Nat.le_of_ble_eq_true rfl)
  rw [lg_entry_eq]
  generalize (lg_sl ([.ref a0, .int p1]) ++ List.replicate (2 - (lg_sl ([.ref a0, .int p1])).length) Slot.unset).toArray = ls at hl ⊢
  have hl : lv_has ls 2 [(0, .ref a0), (1, .int p1)] := hl
  unfold GX1_chainOf at hF
  refine lv_aload_n hx hb dX1_chainOf_0 rfl (lv_at hl 0 rfl) ?_
  refine lv_iconst (v := 1) hx hb dX1_chainOf_1 (by decide) ?_
  obtain ⟨a1_, h1, ea1, eh1, g1, hF⟩ := nA_s hF
  have mm1 : hle h1 out.2 := (show Mo h1 _ from mo_sI hle_rf (fun h2 m2 => mo_gC (mo_bnx (moX1_requireDirections n h2 a0 a1_) m2 (fun r3 u3 m3 => mo_gQ (fun x4_ => mo_gQ (fun x5_ => mo_gC (mo_bnd (moJ2_get u3 x5_ p1) m3 (fun r6 u6 m6 => mo_gC (mo_gC (mo_bnd (moX9_chain u6 r6) m6 (fun r8 u8 m8 => mo_ret m8))))))))))) _ hF
  replace hc := cst_new hc eh1
  refine h_newI hx hb (hts _ q177) hGr hr hS g1 (bud hc mm1 hmc hms).1 (bud hc mm1 hmc hms).2 dX1_chainOf_2 (fun H hr hS => ?_)
  rw [← eh1] at hr
  rw [← ea1]
  refine lv_dup hx hb dX1_chainOf_4 rfl ?_
  refine lv_iconst (v := 0) hx hb dX1_chainOf_5 (by decide) ?_
  refine lv_iload_n hx hb dX1_chainOf_6 rfl (lv_at hl 1 rfl) ?_
  obtain ⟨n2, f2, e2, lo2, g2, hF⟩ := sI_s hF
  obtain ⟨h2, eh2⟩ : ∃ z, z = hPut h1 a1_ (.inl (0, n2, .inl (upd f2 ((0 : Int32)).toNatClampNeg p1))) := ⟨_, rfl⟩
  rw [← eh2] at hF
  refine h_iast hx hb hGr hr hS 0 rfl e2 (x := p1) g2 lo2 dX1_chainOf_7 (fun H locs hr hS => ?_)
  rw [← eh2] at hr
  replace hc := cst_put hc eh2
  obtain ⟨fc3, ec3, hF⟩ := gC_s hF
  rcases bnx_s hF with ⟨r3, u3, e3, hF⟩ | ⟨q3, u3, e3, hF⟩
  rotate_left
  · obtain ⟨mc3, ms3, hmc3, hms3⟩ := up_of (moX1_requireDirections n h2 a0 a1_ _ e3)
    have hcx := cst_call hc hmc3 hms3
    have bx3 := bud_r hcx hF hmc hms
    refine h_xthrv rfl (vx_runV (As := [.ref a1_]) (rest := []) ⟨hx, hb, hml, hown, hts⟩ (mgX1_requireDirections l hl0 D A h2 n a0 a1_ _ e3 mc3 ms3 hmc3 hms3) (cwV 1 hts (lw_V q1836 q1838 qs42 q101 q1839) rfl rfl rfl (by decide +kernel) ⟨Nat.le_of_ble_eq_true rfl, Nat.le_of_ble_eq_true rfl⟩) (h_preV hGr hr hS ec3 (by decide) (q := (RX1, TX1, 7)) rfl _) rfl rfl hl.1 rfl (lv_room (Nat.le_of_ble_eq_true rfl)) dX1_chainOf_8 ⟨bx3.1, bx3.2⟩) hS (fun E9 q9 u9 H locs ce9 e1 e2 e3 hr hS h1 h2 h3 => ?_)
    exact h_xpass hGr htb hlocks hF bx3 e1 e2 e3 hr hS h1 h2 h3
  have mm3 : hle u3 out.2 := (show Mo u3 _ from mo_gQ (fun x4_ => mo_gQ (fun x5_ => mo_gC (mo_bnd (moJ2_get u3 x5_ p1) hle_rf (fun r6 u6 m6 => mo_gC (mo_gC (mo_bnd (moX9_chain u6 r6) m6 (fun r8 u8 m8 => mo_ret m8)))))))) _ hF
  obtain ⟨mc3, ms3, hmc3, hms3⟩ := up_of (moX1_requireDirections n h2 a0 a1_ _ e3)
  replace hc := cst_call hc hmc3 hms3
  refine h_xretv rfl (vx_runV (As := [.ref a1_]) (rest := []) ⟨hx, hb, hml, hown, hts⟩ (mgX1_requireDirections l hl0 D A h2 n a0 a1_ _ e3 mc3 ms3 hmc3 hms3) (cwV 1 hts (lw_V q1836 q1838 qs42 q101 q1839) rfl rfl rfl (by decide +kernel) ⟨Nat.le_of_ble_eq_true rfl, Nat.le_of_ble_eq_true rfl⟩) (h_preV hGr hr hS ec3 (by decide) (q := (RX1, TX1, 7)) rfl _) rfl rfl hl.1 rfl (lv_room (Nat.le_of_ble_eq_true rfl)) dX1_chainOf_8 ⟨(bud hc mm3 hmc hms).1, (bud hc mm3 hmc hms).2⟩) hS (fun H locs hr hS => ?_)
  refine lv_aload_n hx hb dX1_chainOf_11 rfl (lv_at hl 0 rfl) ?_
  obtain ⟨fs4, x4_, e4, f4, hF⟩ := gQ_s hF
  refine h_get (C := RX1) (T := TX1) (N := 7) hx hb hts in_X1 hown hGr hr e4 (by decide) rfl 0 (by decide) (hts _ q633) (fun _ h9 => h9) f4 dX1_chainOf_12 ?_
  obtain ⟨fs5, x5_, e5, f5, hF⟩ := gQ_s hF
  refine h_getN (C := RX2) (T := TX2) (N := 11) hx hb hts in_X2 hown hGr hr e5 (by decide) rfl 7 (by decide) (va_Nw.use rfl (hGr.nw q583 rfl)) (fun _ h9 => h9) f5 dX1_chainOf_15 ?_
  refine lv_iload_n hx hb dX1_chainOf_18 rfl (lv_at hl 1 rfl) ?_
  obtain ⟨fc6, ec6, hF⟩ := gC_s hF
  obtain ⟨r6, u6, e6, hF⟩ := bnd_s hF
  have mm6 : hle u6 out.2 := (show Mo u6 _ from mo_gC (mo_gC (mo_bnd (moX9_chain u6 r6) hle_rf (fun r8 u8 m8 => mo_ret m8)))) _ hF
  obtain ⟨mc6, ms6, hmc6, hms6⟩ := up_of (moJ2_get u3 x5_ p1 _ e6)
  replace hc := cst_call hc hmc6 hms6
  refine h_callFr (va_runF (hGr.K.1 10 _ rfl).2 (As := [.int p1]) (rest := []) ⟨hx, hb, hml, hown, hts⟩ (mgJ2_get l D A u3 x5_ p1 _ e6 mc6 ms6 hmc6 hms6) (va_cwF 1 hts (lw_app (lw_fi q1276 q934 q936 q106) (lw_meth q938)) rfl rfl rfl (fw_7 hGr) (by decide +kernel) ⟨Nat.le_of_ble_eq_true rfl, Nat.le_of_ble_eq_true rfl⟩) (h_preV hGr hr hS ec6 (by decide) (q := (RJ2, TJ2, 3)) rfl _) rfl rfl hl.1 rfl (lv_room (Nat.le_of_ble_eq_true rfl)) dX1_chainOf_19 ⟨(bud hc mm6 hmc hms).1, (bud hc mm6 hmc hms).2⟩) hS (fun rr uu H locs hw hr hS => ?_)
  obtain rfl : u6 = uu := (congrArg Prod.snd hw).symm
  obtain rfl : r6 = rr := (congrArg Prod.fst hw).symm
  obtain ⟨fs7, e7, hF⟩ := gC_s hF
  refine h_cast hx hb hown (hts _ q1847) hGr hr e7 (by decide) (T := TX9) (N := 3) rfl dX1_chainOf_24 ?_
  obtain ⟨fc8, ec8, hF⟩ := gC_s hF
  obtain ⟨r8, u8, e8, hF⟩ := bnd_s hF
  have mm8 : hle u8 out.2 := (show Mo u8 _ from mo_ret hle_rf) _ hF
  obtain ⟨mc8, ms8, hmc8, hms8⟩ := up_of (moX9_chain u6 r6 _ e8)
  replace hc := cst_call hc hmc8 hms8
  refine h_calli (va_runV (As := []) (rest := []) ⟨hx, hb, hml, hown, hts⟩ (mgX9_chain l D A u6 r6 _ e8 mc8 ms8 hmc8 hms8) (cwV 0 hts (lw_V q1848 q1849 q1850 q140 q1851) rfl rfl rfl (by decide +kernel) ⟨Nat.le_of_ble_eq_true rfl, Nat.le_of_ble_eq_true rfl⟩) (h_preV hGr hr hS ec8 (by decide) (q := (RX9, TX9, 3)) rfl _) rfl rfl hl.1 rfl (lv_room (Nat.le_of_ble_eq_true rfl)) dX1_chainOf_27 ⟨(bud hc mm8 hmc hms).1, (bud hc mm8 hmc hms).2⟩) hS (fun rr uu H locs hw hr hS => ?_)
  obtain rfl : u8 = uu := (congrArg Prod.snd hw).symm
  obtain rfl : r8 = rr := (congrArg Prod.fst hw).symm
  have bz := bud_r hc hF hmc hms
  refine vx_ret ?_
  refine W.widen (k := mc) (n := ms) bz.1 bz.2 ?_
  exact W.iret (v := r8) hx hb hret (fun t ht hWm => ⟨⟨r8, u8, rfl, Option.some.inj hF, h_end hGr hr hS ht hWm⟩, hS.F ht⟩) hS.2.2 dX1_chainOf_30

def GX1_productOf (n : Nat) (h : Hp) (a0 : Nat) (p1 : Int32) (p2 : Int32) : Option (Int32 × Hp) := gQ h a0 1 0 (fun x1_ => gQ h x1_ 2 0 (fun x2_ => gQ h a0 1 0 (fun x3_ => gC h x3_ 2 (bnd (GX2_vector h x3_ p1) (fun r4 u4 => gQ u4 a0 1 0 (fun x5_ => gC u4 x5_ 2 (bnd (GX2_vector u4 x5_ p2) (fun r6 u6 => gC u6 x2_ 3 (bnd (GX3_product n u6 x2_ r4 r6) (fun r7 u7 => some (r7, u7)))))))))))
theorem moX1_productOf (n : Nat) (h : Hp) (a0 : Nat) (p1 : Int32) (p2 : Int32) : Mo h (GX1_productOf n h a0 p1 p2) := by
  unfold GX1_productOf
  exact mo_gQ (fun x1_ => mo_gQ (fun x2_ => mo_gQ (fun x3_ => mo_gC (mo_bnd (moX2_vector h x3_ p1) hle_rf (fun r4 u4 m4 => mo_gQ (fun x5_ => mo_gC (mo_bnd (moX2_vector u4 x5_ p2) m4 (fun r6 u6 m6 => mo_gC (mo_bnd (moX3_product n u6 x2_ r4 r6) m6 (fun r7 u7 m7 => mo_ret m7))))))))))
set_option maxHeartbeats 4000000 in
set_option maxRecDepth 100000 in
theorem mgX1_productOf (l : Launch) (D : HD) (A : Nat → Prop) (h : Hp) (n : Nat) (a0 : Nat) (p1 : Int32) (p2 : Int32) (out : Int32 × Hp) (hF : GX1_productOf n h a0 p1 p2 = some out) (mc ms : Nat) (hmc : hCc out.2 = hCc h + mc) (hms : hSl out.2 = hSl h + ms) : Met l yX1_productOf (ws_ yX1_productOf cX1_productOf 3 (some .int)) ({ frames := 4, cells := mc, slots := ms, locals := 85 }) (va_Pc [.ref a0, .int p1, .int p2] (hW D A h)) (va_Qi (fun r u => (r, u) = out) (hW D A) A) mc ms A := by
  refine Met.ofW (cc := cX1_productOf) (maxL := 3) (ret := (some .int)) (by decide +kernel) rfl ?_
  intro p e s m args below meth c s₁ B hml hv
  obtain ⟨rfl, hr, hGr⟩ := hv
  have hx := B.exec
  have hb := B.bytes
  have hret := B.returns
  have hts := atoms_spec (ws := (ws_ yX1_productOf cX1_productOf 3 (some .int))) B.pre
  have hts : ∀ w ∈ lw_all, w.before _ s = true := fun w h => hts w (List.mem_cons_of_mem _ h)
  have hown : s.vm.findClass RX1 = some m.cls := findClass_of_methodNamed B.named
  have hlocks := B.notSynchronized
  have hS : va_S A s.heap s.heap [] := va_S.rf
  have hc : cst h 0 0 h := cst_0
  have hl := lv_entry ([.ref a0, .int p1, .int p2]) (n := 3) (Nat.le_of_ble_eq_true rfl)
  rw [lg_entry_eq]
  generalize (lg_sl ([.ref a0, .int p1, .int p2]) ++ List.replicate (3 - (lg_sl ([.ref a0, .int p1, .int p2])).length) Slot.unset).toArray = ls at hl ⊢
  have hl : lv_has ls 3 [(0, .ref a0), (1, .int p1), (2, .int p2)] := hl
  unfold GX1_productOf at hF
  refine lv_aload_n hx hb dX1_productOf_0 rfl (lv_at hl 0 rfl) ?_
  obtain ⟨fs1, x1_, e1, f1, hF⟩ := gQ_s hF
  refine h_get (C := RX1) (T := TX1) (N := 7) hx hb hts in_X1 hown hGr hr e1 (by decide) rfl 0 (by decide) (hts _ q633) (fun _ h9 => h9) f1 dX1_productOf_1 ?_
  obtain ⟨fs2, x2_, e2, f2, hF⟩ := gQ_s hF
  refine h_getN (C := RX2) (T := TX2) (N := 11) hx hb hts in_X2 hown hGr hr e2 (by decide) rfl 0 (by decide) (va_Nw.use rfl (hGr.nw q564 rfl)) (fun _ h9 => h9) f2 dX1_productOf_4 ?_
  refine lv_aload_n hx hb dX1_productOf_7 rfl (lv_at hl 0 rfl) ?_
  obtain ⟨fs3, x3_, e3, f3, hF⟩ := gQ_s hF
  refine h_get (C := RX1) (T := TX1) (N := 7) hx hb hts in_X1 hown hGr hr e3 (by decide) rfl 0 (by decide) (hts _ q633) (fun _ h9 => h9) f3 dX1_productOf_8 ?_
  refine lv_iload_n hx hb dX1_productOf_11 rfl (lv_at hl 1 rfl) ?_
  obtain ⟨fc4, ec4, hF⟩ := gC_s hF
  obtain ⟨r4, u4, e4, hF⟩ := bnd_s hF
  have mm4 : hle u4 out.2 := (show Mo u4 _ from mo_gQ (fun x5_ => mo_gC (mo_bnd (moX2_vector u4 x5_ p2) hle_rf (fun r6 u6 m6 => mo_gC (mo_bnd (moX3_product n u6 x2_ r4 r6) m6 (fun r7 u7 m7 => mo_ret m7)))))) _ hF
  obtain ⟨mc4, ms4, hmc4, hms4⟩ := up_of (moX2_vector h x3_ p1 _ e4)
  replace hc := cst_call hc hmc4 hms4
  refine h_callr (va_runV (As := [.int p1]) (rest := [.ref x2_]) ⟨hx, hb, hml, hown, hts⟩ (mgX2_vector l D A h x3_ p1 _ e4 mc4 ms4 hmc4 hms4) (cwV 1 hts (lw_V q1077 q1014 q1015 q102 q1016) rfl rfl rfl (by decide +kernel) ⟨Nat.le_of_ble_eq_true rfl, Nat.le_of_ble_eq_true rfl⟩) (h_preV hGr hr hS ec4 (by decide) (q := (RX2, TX2, 11)) rfl _) rfl rfl hl.1 rfl (lv_room (Nat.le_of_ble_eq_true rfl)) dX1_productOf_12 ⟨(bud hc mm4 hmc hms).1, (bud hc mm4 hmc hms).2⟩) hS (fun rr uu H locs hw hr hS => ?_)
  obtain rfl : u4 = uu := (congrArg Prod.snd hw).symm
  obtain rfl : r4 = rr := (congrArg Prod.fst hw).symm
  refine lv_aload_n hx hb dX1_productOf_15 rfl (lv_at hl 0 rfl) ?_
  obtain ⟨fs5, x5_, e5, f5, hF⟩ := gQ_s hF
  refine h_get (C := RX1) (T := TX1) (N := 7) hx hb hts in_X1 hown hGr hr e5 (by decide) rfl 0 (by decide) (hts _ q633) (fun _ h9 => h9) f5 dX1_productOf_16 ?_
  refine lv_iload_n hx hb dX1_productOf_19 rfl (lv_at hl 2 rfl) ?_
  obtain ⟨fc6, ec6, hF⟩ := gC_s hF
  obtain ⟨r6, u6, e6, hF⟩ := bnd_s hF
  have mm6 : hle u6 out.2 := (show Mo u6 _ from mo_gC (mo_bnd (moX3_product n u6 x2_ r4 r6) hle_rf (fun r7 u7 m7 => mo_ret m7))) _ hF
  obtain ⟨mc6, ms6, hmc6, hms6⟩ := up_of (moX2_vector u4 x5_ p2 _ e6)
  replace hc := cst_call hc hmc6 hms6
  refine h_callr (va_runV (As := [.int p2]) (rest := [.ref r4, .ref x2_]) ⟨hx, hb, hml, hown, hts⟩ (mgX2_vector l D A u4 x5_ p2 _ e6 mc6 ms6 hmc6 hms6) (cwV 1 hts (lw_V q1077 q1014 q1015 q102 q1016) rfl rfl rfl (by decide +kernel) ⟨Nat.le_of_ble_eq_true rfl, Nat.le_of_ble_eq_true rfl⟩) (h_preV hGr hr hS ec6 (by decide) (q := (RX2, TX2, 11)) rfl _) rfl rfl hl.1 rfl (lv_room (Nat.le_of_ble_eq_true rfl)) dX1_productOf_20 ⟨(bud hc mm6 hmc hms).1, (bud hc mm6 hmc hms).2⟩) hS (fun rr uu H locs hw hr hS => ?_)
  obtain rfl : u6 = uu := (congrArg Prod.snd hw).symm
  obtain rfl : r6 = rr := (congrArg Prod.fst hw).symm
  obtain ⟨fc7, ec7, hF⟩ := gC_s hF
  obtain ⟨r7, u7, e7, hF⟩ := bnd_s hF
  have mm7 : hle u7 out.2 := (show Mo u7 _ from mo_ret hle_rf) _ hF
  obtain ⟨mc7, ms7, hmc7, hms7⟩ := up_of (moX3_product n u6 x2_ r4 r6 _ e7)
  replace hc := cst_call hc hmc7 hms7
  refine h_calli (va_runV (As := [.ref r4, .ref r6]) (rest := []) ⟨hx, hb, hml, hown, hts⟩ (mgX3_product l D A u6 n x2_ r4 r6 _ e7 mc7 ms7 hmc7 hms7) (cwV 2 hts (lw_V q1078 q969 q970 q103 q971) rfl rfl rfl (by decide +kernel) ⟨Nat.le_of_ble_eq_true rfl, Nat.le_of_ble_eq_true rfl⟩) (h_preV hGr hr hS ec7 (by decide) (q := (RX3, TX3, 2)) rfl _) rfl rfl hl.1 rfl (lv_room (Nat.le_of_ble_eq_true rfl)) dX1_productOf_23 ⟨(bud hc mm7 hmc hms).1, (bud hc mm7 hmc hms).2⟩) hS (fun rr uu H locs hw hr hS => ?_)
  obtain rfl : u7 = uu := (congrArg Prod.snd hw).symm
  obtain rfl : r7 = rr := (congrArg Prod.fst hw).symm
  have bz := bud_r hc hF hmc hms
  refine W.widen (k := mc) (n := ms) bz.1 bz.2 ?_
  exact W.iret (v := r7) hx hb hret (fun t ht hWm => ⟨⟨r7, u7, rfl, Option.some.inj hF, h_end hGr hr hS ht hWm⟩, hS.F ht⟩) hS.2.2 dX1_productOf_26

def GX1_product (n : Nat) (h : Hp) (a0 : Nat) (p1 : Int32) (p2 : Int32) : Option ((Int32 ⊕ Xq) × Hp) := nA h 0 (2 : Int32) (fun a1_ h1 => sI h1 a1_ 0 (0 : Int32) p1 (fun h2 => sI h2 a1_ 0 (1 : Int32) p2 (fun h3 => gC h3 a0 1 (bnx (GX1_requireDirections n h3 a0 a1_) (fun r4 u4 => gC u4 a0 1 (bnd (GX1_productOf n u4 a0 p1 p2) (fun r5 u5 => some (.inl r5, u5))))))))
theorem moX1_product (n : Nat) (h : Hp) (a0 : Nat) (p1 : Int32) (p2 : Int32) : Mo h (GX1_product n h a0 p1 p2) := by
  unfold GX1_product
  exact mo_nA hle_rf (fun a1_ h1 m1 => mo_sI m1 (fun h2 m2 => mo_sI m2 (fun h3 m3 => mo_gC (mo_bnx (moX1_requireDirections n h3 a0 a1_) m3 (fun r4 u4 m4 => mo_gC (mo_bnd (moX1_productOf n u4 a0 p1 p2) m4 (fun r5 u5 m5 => mo_ret m5)))))))
set_option maxHeartbeats 4000000 in
set_option maxRecDepth 100000 in
theorem mgX1_product (l : Launch) (hl0 : l.stackTraces = false) (D : HD) (A : Nat → Prop) (h : Hp) (n : Nat) (a0 : Nat) (p1 : Int32) (p2 : Int32) (out : (Int32 ⊕ Xq) × Hp) (hF : GX1_product n h a0 p1 p2 = some out) (mc ms : Nat) (hmc : hCc out.2 = hCc h + mc) (hms : hSl out.2 = hSl h + ms) : vx_Met l yX1_product (ws_ yX1_product cX1_product 3 (some .int)) ({ frames := 8, cells := mc, slots := ms, locals := 146 }) (va_Pc [.ref a0, .int p1, .int p2] (hW D A h)) (va_Qi (fun r u => ((.inl r : Int32 ⊕ Xq), u) = out) (hW D A) A) (xC D A out) mc ms A := by
  refine vx_ofW (cc := cX1_product) (maxL := 3) (ret := (some .int)) (by decide +kernel) rfl ?_
  intro p e s m args below meth c s₁ B hml htb hv
  obtain ⟨rfl, hr, hGr⟩ := hv
  have hx := B.exec
  have hb := B.bytes
  have hret := B.returns
  have hts := atoms_spec (ws := (ws_ yX1_product cX1_product 3 (some .int))) B.pre
  have hts : ∀ w ∈ lw_all, w.before _ s = true := fun w h => hts w (List.mem_cons_of_mem _ h)
  have hown : s.vm.findClass RX1 = some m.cls := findClass_of_methodNamed B.named
  have hlocks := B.notSynchronized
  have hS : va_S A s.heap s.heap [] := va_S.rf
  have hc : cst h 0 0 h := cst_0
  have hl := lv_entry ([.ref a0, .int p1, .int p2]) (n := 3) (Nat.le_of_ble_eq_true rfl)
  rw [lg_entry_eq]
  generalize (lg_sl ([.ref a0, .int p1, .int p2]) ++ List.replicate (3 - (lg_sl ([.ref a0, .int p1, .int p2])).length) Slot.unset).toArray = ls at hl ⊢
  have hl : lv_has ls 3 [(0, .ref a0), (1, .int p1), (2, .int p2)] := hl
  unfold GX1_product at hF
  refine lv_aload_n hx hb dX1_product_0 rfl (lv_at hl 0 rfl) ?_
  refine lv_iconst (v := 2) hx hb dX1_product_1 (by decide) ?_
  obtain ⟨a1_, h1, ea1, eh1, g1, hF⟩ := nA_s hF
  have mm1 : hle h1 out.2 := (show Mo h1 _ from mo_sI hle_rf (fun h2 m2 => mo_sI m2 (fun h3 m3 => mo_gC (mo_bnx (moX1_requireDirections n h3 a0 a1_) m3 (fun r4 u4 m4 => mo_gC (mo_bnd (moX1_productOf n u4 a0 p1 p2) m4 (fun r5 u5 m5 => mo_ret m5))))))) _ hF
  replace hc := cst_new hc eh1
  refine h_newI hx hb (hts _ q177) hGr hr hS g1 (bud hc mm1 hmc hms).1 (bud hc mm1 hmc hms).2 dX1_product_2 (fun H hr hS => ?_)
  rw [← eh1] at hr
  rw [← ea1]
  refine lv_dup hx hb dX1_product_4 rfl ?_
  refine lv_iconst (v := 0) hx hb dX1_product_5 (by decide) ?_
  refine lv_iload_n hx hb dX1_product_6 rfl (lv_at hl 1 rfl) ?_
  obtain ⟨n2, f2, e2, lo2, g2, hF⟩ := sI_s hF
  obtain ⟨h2, eh2⟩ : ∃ z, z = hPut h1 a1_ (.inl (0, n2, .inl (upd f2 ((0 : Int32)).toNatClampNeg p1))) := ⟨_, rfl⟩
  rw [← eh2] at hF
  refine h_iast hx hb hGr hr hS 0 rfl e2 (x := p1) g2 lo2 dX1_product_7 (fun H locs hr hS => ?_)
  rw [← eh2] at hr
  replace hc := cst_put hc eh2
  refine lv_dup hx hb dX1_product_8 rfl ?_
  refine lv_iconst (v := 1) hx hb dX1_product_9 (by decide) ?_
  refine lv_iload_n hx hb dX1_product_10 rfl (lv_at hl 2 rfl) ?_
  obtain ⟨n3, f3, e3, lo3, g3, hF⟩ := sI_s hF
  obtain ⟨h3, eh3⟩ : ∃ z, z = hPut h2 a1_ (.inl (0, n3, .inl (upd f3 ((1 : Int32)).toNatClampNeg p2))) := ⟨_, rfl⟩
  rw [← eh3] at hF
  refine h_iast hx hb hGr hr hS 0 rfl e3 (x := p2) g3 lo3 dX1_product_11 (fun H locs hr hS => ?_)
  rw [← eh3] at hr
  replace hc := cst_put hc eh3
  obtain ⟨fc4, ec4, hF⟩ := gC_s hF
  rcases bnx_s hF with ⟨r4, u4, e4, hF⟩ | ⟨q4, u4, e4, hF⟩
  rotate_left
  · obtain ⟨mc4, ms4, hmc4, hms4⟩ := up_of (moX1_requireDirections n h3 a0 a1_ _ e4)
    have hcx := cst_call hc hmc4 hms4
    have bx4 := bud_r hcx hF hmc hms
    refine h_xthrv rfl (vx_runV (As := [.ref a1_]) (rest := []) ⟨hx, hb, hml, hown, hts⟩ (mgX1_requireDirections l hl0 D A h3 n a0 a1_ _ e4 mc4 ms4 hmc4 hms4) (cwV 1 hts (lw_V q1836 q1838 qs42 q101 q1839) rfl rfl rfl (by decide +kernel) ⟨Nat.le_of_ble_eq_true rfl, Nat.le_of_ble_eq_true rfl⟩) (h_preV hGr hr hS ec4 (by decide) (q := (RX1, TX1, 7)) rfl _) rfl rfl hl.1 rfl (lv_room (Nat.le_of_ble_eq_true rfl)) dX1_product_12 ⟨bx4.1, bx4.2⟩) hS (fun E9 q9 u9 H locs ce9 e1 e2 e3 hr hS h1 h2 h3 => ?_)
    exact h_xpass hGr htb hlocks hF bx4 e1 e2 e3 hr hS h1 h2 h3
  have mm4 : hle u4 out.2 := (show Mo u4 _ from mo_gC (mo_bnd (moX1_productOf n u4 a0 p1 p2) hle_rf (fun r5 u5 m5 => mo_ret m5))) _ hF
  obtain ⟨mc4, ms4, hmc4, hms4⟩ := up_of (moX1_requireDirections n h3 a0 a1_ _ e4)
  replace hc := cst_call hc hmc4 hms4
  refine h_xretv rfl (vx_runV (As := [.ref a1_]) (rest := []) ⟨hx, hb, hml, hown, hts⟩ (mgX1_requireDirections l hl0 D A h3 n a0 a1_ _ e4 mc4 ms4 hmc4 hms4) (cwV 1 hts (lw_V q1836 q1838 qs42 q101 q1839) rfl rfl rfl (by decide +kernel) ⟨Nat.le_of_ble_eq_true rfl, Nat.le_of_ble_eq_true rfl⟩) (h_preV hGr hr hS ec4 (by decide) (q := (RX1, TX1, 7)) rfl _) rfl rfl hl.1 rfl (lv_room (Nat.le_of_ble_eq_true rfl)) dX1_product_12 ⟨(bud hc mm4 hmc hms).1, (bud hc mm4 hmc hms).2⟩) hS (fun H locs hr hS => ?_)
  refine lv_aload_n hx hb dX1_product_15 rfl (lv_at hl 0 rfl) ?_
  refine lv_iload_n hx hb dX1_product_16 rfl (lv_at hl 1 rfl) ?_
  refine lv_iload_n hx hb dX1_product_17 rfl (lv_at hl 2 rfl) ?_
  obtain ⟨fc5, ec5, hF⟩ := gC_s hF
  obtain ⟨r5, u5, e5, hF⟩ := bnd_s hF
  have mm5 : hle u5 out.2 := (show Mo u5 _ from mo_ret hle_rf) _ hF
  obtain ⟨mc5, ms5, hmc5, hms5⟩ := up_of (moX1_productOf n u4 a0 p1 p2 _ e5)
  replace hc := cst_call hc hmc5 hms5
  refine h_calli (va_runV (As := [.int p1, .int p2]) (rest := []) ⟨hx, hb, hml, hown, hts⟩ (mgX1_productOf l D A u4 n a0 p1 p2 _ e5 mc5 ms5 hmc5 hms5) (cwV 2 hts (lw_V q1073 q1075 qs18 q101 q1076) rfl rfl rfl (by decide +kernel) ⟨Nat.le_of_ble_eq_true rfl, Nat.le_of_ble_eq_true rfl⟩) (h_preV hGr hr hS ec5 (by decide) (q := (RX1, TX1, 7)) rfl _) rfl rfl hl.1 rfl (lv_room (Nat.le_of_ble_eq_true rfl)) dX1_product_18 ⟨(bud hc mm5 hmc hms).1, (bud hc mm5 hmc hms).2⟩) hS (fun rr uu H locs hw hr hS => ?_)
  obtain rfl : u5 = uu := (congrArg Prod.snd hw).symm
  obtain rfl : r5 = rr := (congrArg Prod.fst hw).symm
  have bz := bud_r hc hF hmc hms
  refine vx_ret ?_
  refine W.widen (k := mc) (n := ms) bz.1 bz.2 ?_
  exact W.iret (v := r5) hx hb hret (fun t ht hWm => ⟨⟨r5, u5, rfl, Option.some.inj hF, h_end hGr hr hS ht hWm⟩, hS.F ht⟩) hS.2.2 dX1_product_21

def GX1_skew_1 (R : Nat → Hp → Nat → Int32 → Int32 → Int32 → Option (Int32 × Hp)) (n : Nat) (h : Hp) (b0 : Nat) (x1 : Int32) (x2 : Int32) (x3 : Int32) : Option (Int32 × Hp) := gQ h b0 1 0 (fun x1_ => gQ h x1_ 2 7 (fun x2_ => gC h x2_ 10 (bnd (GJ2_size h x2_) (fun r3 u3 => if r3 ≤ x2 then some (x1, u3) else R 2 u3 b0 x1 x2 (0 : Int32)))))
def GX1_skew_2 (R : Nat → Hp → Nat → Int32 → Int32 → Int32 → Option (Int32 × Hp)) (n : Nat) (h : Hp) (b0 : Nat) (x1 : Int32) (x2 : Int32) (x3 : Int32) : Option (Int32 × Hp) := if x2 ≤ x3 then R 1 h b0 x1 (x2 + 1) x3 else gC h b0 1 (bnd (GX1_productOf n h b0 x2 x3) (fun r6 u6 => if r6 = 0 then R 2 u6 b0 (x1 + 0) x2 (x3 + 1) else R 2 u6 b0 (x1 + 1) x2 (x3 + 1)))
def GX1_skew_r : Nat → Nat → Hp → Nat → Int32 → Int32 → Int32 → Option (Int32 × Hp)
  | 0 => fun _ _ _ _ _ _ => none
  | n + 1 => fun k => match k with | 1 => GX1_skew_1 (GX1_skew_r n) n | _ => GX1_skew_2 (GX1_skew_r n) n
def GX1_skew_0 (R : Nat → Hp → Nat → Int32 → Int32 → Int32 → Option (Int32 × Hp)) (n : Nat) (h : Hp) (a0 : Nat) : Option (Int32 × Hp) := R 1 h a0 (0 : Int32) (0 : Int32) 0
def GX1_skew (n : Nat) (h : Hp) (a0 : Nat) : Option (Int32 × Hp) := GX1_skew_0 (GX1_skew_r n) n h a0
theorem moX1_skew_r (n : Nat) : (∀ (h : Hp) (b0 : Nat) (x1 : Int32) (x2 : Int32) (x3 : Int32), Mo h (GX1_skew_r n 1 h b0 x1 x2 x3)) ∧ (∀ (h : Hp) (b0 : Nat) (x1 : Int32) (x2 : Int32) (x3 : Int32), Mo h (GX1_skew_r n 2 h b0 x1 x2 x3)) := by
  induction n with
  | zero => exact ⟨(fun _ _ _ _ _ => mo_no), (fun _ _ _ _ _ => mo_no)⟩
  | succ n ih =>
    obtain ⟨ml1, ml2⟩ := ih
    exact ⟨(fun h b0 x1 x2 x3 => show Mo h (GX1_skew_1 (GX1_skew_r n) n h b0 x1 x2 x3) from by unfold GX1_skew_1; exact mo_gQ (fun x1_ => mo_gQ (fun x2_ => mo_gC (mo_bnd (moJ2_size h x2_) hle_rf (fun r3 u3 m3 => mo_ite (mo_ret m3) (mo_tr m3 (ml2 u3 b0 x1 x2 (0 : Int32)))))))),
      (fun h b0 x1 x2 x3 => show Mo h (GX1_skew_2 (GX1_skew_r n) n h b0 x1 x2 x3) from by unfold GX1_skew_2; exact mo_ite (mo_tr hle_rf (ml1 h b0 x1 (x2 + 1) x3)) (mo_gC (mo_bnd (moX1_productOf n h b0 x2 x3) hle_rf (fun r6 u6 m6 => mo_ite (mo_tr m6 (ml2 u6 b0 (x1 + 0) x2 (x3 + 1))) (mo_tr m6 (ml2 u6 b0 (x1 + 1) x2 (x3 + 1)))))))⟩
theorem moX1_skew (n : Nat) (h : Hp) (a0 : Nat) : Mo h (GX1_skew n h a0) := by
  obtain ⟨ml1, ml2⟩ := moX1_skew_r n
  unfold GX1_skew GX1_skew_0
  exact mo_tr hle_rf (ml1 h a0 (0 : Int32) (0 : Int32) 0)
set_option maxHeartbeats 4000000 in
set_option maxRecDepth 100000 in
theorem mgX1_skew (l : Launch) (D : HD) (A : Nat → Prop) (h : Hp) (n : Nat) (a0 : Nat) (out : Int32 × Hp) (hF : GX1_skew n h a0 = some out) (mc ms : Nat) (hmc : hCc out.2 = hCc h + mc) (hms : hSl out.2 = hSl h + ms) : Met l yX1_skew (ws_ yX1_skew cX1_skew 4 (some .int)) ({ frames := 5, cells := mc, slots := ms, locals := 107 }) (va_Pc [.ref a0] (hW D A h)) (va_Qi (fun r u => (r, u) = out) (hW D A) A) mc ms A := by
  refine Met.ofW (cc := cX1_skew) (maxL := 4) (ret := (some .int)) (by decide +kernel) rfl ?_
  intro p e s m args below meth c s₁ B hml hv
  obtain ⟨rfl, hr, hGr⟩ := hv
  have hx := B.exec
  have hb := B.bytes
  have hret := B.returns
  have hts := atoms_spec (ws := (ws_ yX1_skew cX1_skew 4 (some .int))) B.pre
  have hts : ∀ w ∈ lw_all, w.before _ s = true := fun w h => hts w (List.mem_cons_of_mem _ h)
  have hown : s.vm.findClass RX1 = some m.cls := findClass_of_methodNamed B.named
  have hlocks := B.notSynchronized
  have hS : va_S A s.heap s.heap [] := va_S.rf
  have hc : cst h 0 0 h := cst_0
  have hl := lv_entry ([.ref a0]) (n := 4) (Nat.le_of_ble_eq_true rfl)
  rw [lg_entry_eq]
  generalize (lg_sl ([.ref a0]) ++ List.replicate (4 - (lg_sl ([.ref a0])).length) Slot.unset).toArray = ls at hl ⊢
  have hl : lv_has ls 4 [(0, .ref a0)] := hl
  obtain ⟨h0, eh0⟩ : ∃ z, z = h := ⟨_, rfl⟩
  rw [← eh0] at hmc hms
  have loop : ∀ n : Nat, (∀ (h : Hp) (b0 : Nat) (x1 : Int32) (x2 : Int32) (x3 : Int32), GX1_skew_r n 1 h b0 x1 x2 x3 = some out → ∀ (H : Heap) (locs : List Loc) (cells slots : Nat), cst h0 cells slots h → hR D A h H → va_S A s.heap H locs → ∀ ls : Array Slot, lv_has ls 4 [(0, .ref b0), (1, .int x1), (2, .int x2)] → W p l e (headSpec (ws_ yX1_skew cX1_skew 4 (some .int)) ({ frames := 5, cells := mc, slots := ms, locals := 107 })).room s m ([.ref a0] : List Value).toArray below meth c H locs cells slots (MQ below (va_Qi (fun r u => (r, u) = out) (hW D A) A) ([.ref a0] : List Value).toArray s mc ms A) (F0 m 4 ls [])) ∧ (∀ (h : Hp) (b0 : Nat) (x1 : Int32) (x2 : Int32) (x3 : Int32), GX1_skew_r n 2 h b0 x1 x2 x3 = some out → ∀ (H : Heap) (locs : List Loc) (cells slots : Nat), cst h0 cells slots h → hR D A h H → va_S A s.heap H locs → ∀ ls : Array Slot, lv_has ls 4 [(0, .ref b0), (1, .int x1), (2, .int x2), (3, .int x3)] → W p l e (headSpec (ws_ yX1_skew cX1_skew 4 (some .int)) ({ frames := 5, cells := mc, slots := ms, locals := 107 })).room s m ([.ref a0] : List Value).toArray below meth c H locs cells slots (MQ below (va_Qi (fun r u => (r, u) = out) (hW D A) A) ([.ref a0] : List Value).toArray s mc ms A) (F0 m 22 ls [])) := by
    intro n
    induction n with
    | zero => exact ⟨(fun _ _ _ _ _ h => nomatch h), (fun _ _ _ _ _ h => nomatch h)⟩
    | succ n ih =>
      obtain ⟨lp1, lp2⟩ := ih
      obtain ⟨ml1, ml2⟩ := moX1_skew_r n
      refine ⟨?_, ?_⟩
      · intro h b0 x1 x2 x3 hF H locs cells slots hc hr hS ls hl
        replace hF : GX1_skew_1 (GX1_skew_r n) n h b0 x1 x2 x3 = some out := hF
        unfold GX1_skew_1 at hF
        refine lv_iload_n hx hb dX1_skew_4 rfl (lv_at hl 2 rfl) ?_
        refine lv_aload_n hx hb dX1_skew_5 rfl (lv_at hl 0 rfl) ?_
        obtain ⟨fs1, x1_, e1, f1, hF⟩ := gQ_s hF
        refine h_get (C := RX1) (T := TX1) (N := 7) hx hb hts in_X1 hown hGr hr e1 (by decide) rfl 0 (by decide) (hts _ q633) (fun _ h9 => h9) f1 dX1_skew_6 ?_
        obtain ⟨fs2, x2_, e2, f2, hF⟩ := gQ_s hF
        refine h_getN (C := RX2) (T := TX2) (N := 11) hx hb hts in_X2 hown hGr hr e2 (by decide) rfl 7 (by decide) (va_Nw.use rfl (hGr.nw q583 rfl)) (fun _ h9 => h9) f2 dX1_skew_9 ?_
        obtain ⟨fc3, ec3, hF⟩ := gC_s hF
        obtain ⟨r3, u3, e3, hF⟩ := bnd_s hF
        have mm3 : hle u3 out.2 := (show Mo u3 _ from mo_ite (mo_ret hle_rf) (mo_tr hle_rf (ml2 u3 b0 x1 x2 (0 : Int32)))) _ hF
        obtain ⟨mc3, ms3, hmc3, hms3⟩ := up_of (moJ2_size h x2_ _ e3)
        replace hc := cst_call hc hmc3 hms3
        refine h_callFi (va_runF (hGr.K.1 10 _ rfl).2 (As := []) (rest := [.int x2]) ⟨hx, hb, hml, hown, hts⟩ (mgJ2_size l D A h x2_ _ e3 mc3 ms3 hmc3 hms3) (va_cwF 0 hts (lw_app (lw_fi q1068 q875 q877 q106) (lw_meth q879)) rfl rfl rfl (fw_5 hGr) (by decide +kernel) ⟨Nat.le_of_ble_eq_true rfl, Nat.le_of_ble_eq_true rfl⟩) (h_preV hGr hr hS ec3 (by decide) (q := (RJ2, TJ2, 3)) rfl _) rfl rfl hl.1 rfl (lv_room (Nat.le_of_ble_eq_true rfl)) dX1_skew_12 ⟨(bud hc mm3 hmc hms).1, (bud hc mm3 hmc hms).2⟩) hS (fun rr uu H locs hw hr hS => ?_)
        obtain rfl : u3 = uu := (congrArg Prod.snd hw).symm
        obtain rfl : r3 = rr := (congrArg Prod.fst hw).symm
        refine lv_icmp_ge (tgt := 56) hx hb dX1_skew_17 (by decide) (fun c4 => ?_) (fun c4 => ?_)
        · replace hF := it_t c4 hF
          refine lv_iload_n hx hb dX1_skew_56 rfl (lv_at hl 1 rfl) ?_
          have bz := bud_r hc hF hmc hms
          refine W.widen (k := mc) (n := ms) bz.1 bz.2 ?_
          exact W.iret (v := x1) hx hb hret (fun t ht hWm => ⟨⟨x1, u3, rfl, Option.some.inj hF, h_end hGr hr hS ht hWm⟩, hS.F ht⟩) hS.2.2 dX1_skew_57
        · replace hF := it_f c4 hF
          refine lv_iconst (v := 0) hx hb dX1_skew_20 (by decide) ?_
          refine lv_istore_n (lv' := [(3, .int 0), (0, .ref b0), (1, .int x1), (2, .int x2)]) hx hb dX1_skew_21 rfl hl (by decide) rfl (fun ls hl => ?_)
          exact lp2 u3 b0 x1 x2 (0 : Int32) hF _ _ _ _ hc hr hS ls (lv_sub hl [1, 2, 3, 0] rfl)
      · intro h b0 x1 x2 x3 hF H locs cells slots hc hr hS ls hl
        replace hF : GX1_skew_2 (GX1_skew_r n) n h b0 x1 x2 x3 = some out := hF
        unfold GX1_skew_2 at hF
        refine lv_iload_n hx hb dX1_skew_22 rfl (lv_at hl 3 rfl) ?_
        refine lv_iload_n hx hb dX1_skew_23 rfl (lv_at hl 2 rfl) ?_
        refine lv_icmp_ge (tgt := 50) hx hb dX1_skew_24 (by decide) (fun c5 => ?_) (fun c5 => ?_)
        · replace hF := it_t c5 hF
          refine lv_iinc (v := (x2 + 1)) (lv' := [(2, .int (x2 + 1)), (0, .ref b0), (1, .int x1), (3, .int x3)]) hx hb dX1_skew_50 hl (k := 2) rfl rfl (by decide) rfl (fun ls hl => ?_)
          refine lv_goto (tgt := 4) hx hb dX1_skew_53 (by decide) ?_
          exact lp1 h b0 x1 (x2 + 1) x3 hF _ _ _ _ hc hr hS ls (lv_sub hl [1, 2, 0] rfl)
        · replace hF := it_f c5 hF
          refine lv_iload_n hx hb dX1_skew_27 rfl (lv_at hl 1 rfl) ?_
          refine lv_aload_n hx hb dX1_skew_28 rfl (lv_at hl 0 rfl) ?_
          refine lv_iload_n hx hb dX1_skew_29 rfl (lv_at hl 2 rfl) ?_
          refine lv_iload_n hx hb dX1_skew_30 rfl (lv_at hl 3 rfl) ?_
          obtain ⟨fc6, ec6, hF⟩ := gC_s hF
          obtain ⟨r6, u6, e6, hF⟩ := bnd_s hF
          have mm6 : hle u6 out.2 := (show Mo u6 _ from mo_ite (mo_tr hle_rf (ml2 u6 b0 (x1 + 0) x2 (x3 + 1))) (mo_tr hle_rf (ml2 u6 b0 (x1 + 1) x2 (x3 + 1)))) _ hF
          obtain ⟨mc6, ms6, hmc6, hms6⟩ := up_of (moX1_productOf n h b0 x2 x3 _ e6)
          replace hc := cst_call hc hmc6 hms6
          refine h_calli (va_runV (As := [.int x2, .int x3]) (rest := [.int x1]) ⟨hx, hb, hml, hown, hts⟩ (mgX1_productOf l D A h n b0 x2 x3 _ e6 mc6 ms6 hmc6 hms6) (cwV 2 hts (lw_V q1073 q1075 qs18 q101 q1076) rfl rfl rfl (by decide +kernel) ⟨Nat.le_of_ble_eq_true rfl, Nat.le_of_ble_eq_true rfl⟩) (h_preV hGr hr hS ec6 (by decide) (q := (RX1, TX1, 7)) rfl _) rfl rfl hl.1 rfl (lv_room (Nat.le_of_ble_eq_true rfl)) dX1_skew_31 ⟨(bud hc mm6 hmc hms).1, (bud hc mm6 hmc hms).2⟩) hS (fun rr uu H locs hw hr hS => ?_)
          obtain rfl : u6 = uu := (congrArg Prod.snd hw).symm
          obtain rfl : r6 = rr := (congrArg Prod.fst hw).symm
          refine lv_if_ne (tgt := 41) hx hb dX1_skew_34 (by decide) (fun c7 => ?_) (fun c7 => ?_)
          · replace hF := it_f c7 hF
            refine lv_iconst (v := 1) hx hb dX1_skew_41 (by decide) ?_
            refine lv_iadd hx hb dX1_skew_42 ?_
            refine lv_istore_n (lv' := [(1, .int (x1 + 1)), (0, .ref b0), (2, .int x2), (3, .int x3)]) hx hb dX1_skew_43 rfl hl (by decide) rfl (fun ls hl => ?_)
            refine lv_iinc (v := (x3 + 1)) (lv' := [(3, .int (x3 + 1)), (1, .int (x1 + 1)), (0, .ref b0), (2, .int x2)]) hx hb dX1_skew_44 hl (k := 3) rfl rfl (by decide) rfl (fun ls hl => ?_)
            refine lv_goto (tgt := 22) hx hb dX1_skew_47 (by decide) ?_
            exact lp2 u6 b0 (x1 + 1) x2 (x3 + 1) hF _ _ _ _ hc hr hS ls (lv_sub hl [2, 1, 3, 0] rfl)
          · replace hF := it_t c7 hF
            refine lv_iconst (v := 0) hx hb dX1_skew_37 (by decide) ?_
            refine lv_goto (tgt := 42) hx hb dX1_skew_38 (by decide) ?_
            refine lv_iadd hx hb dX1_skew_42 ?_
            refine lv_istore_n (lv' := [(1, .int (x1 + 0)), (0, .ref b0), (2, .int x2), (3, .int x3)]) hx hb dX1_skew_43 rfl hl (by decide) rfl (fun ls hl => ?_)
            refine lv_iinc (v := (x3 + 1)) (lv' := [(3, .int (x3 + 1)), (1, .int (x1 + 0)), (0, .ref b0), (2, .int x2)]) hx hb dX1_skew_44 hl (k := 3) rfl rfl (by decide) rfl (fun ls hl => ?_)
            refine lv_goto (tgt := 22) hx hb dX1_skew_47 (by decide) ?_
            exact lp2 u6 b0 (x1 + 0) x2 (x3 + 1) hF _ _ _ _ hc hr hS ls (lv_sub hl [2, 1, 3, 0] rfl)
  obtain ⟨lp1, lp2⟩ := loop n
  obtain ⟨ml1, ml2⟩ := moX1_skew_r n
  have hc : cst h0 0 0 h := by rw [eh0]; exact cst_0
  unfold GX1_skew GX1_skew_0 at hF
  refine lv_iconst (v := 0) hx hb dX1_skew_0 (by decide) ?_
  refine lv_istore_n (lv' := [(1, .int 0), (0, .ref a0)]) hx hb dX1_skew_1 rfl hl (by decide) rfl (fun ls hl => ?_)
  refine lv_iconst (v := 0) hx hb dX1_skew_2 (by decide) ?_
  refine lv_istore_n (lv' := [(2, .int 0), (1, .int 0), (0, .ref a0)]) hx hb dX1_skew_3 rfl hl (by decide) rfl (fun ls hl => ?_)
  exact lp1 h a0 (0 : Int32) (0 : Int32) 0 hF _ _ _ _ hc hr hS ls (lv_sub hl [2, 1, 0] rfl)

def GX1_rank (n : Nat) (h : Hp) (a0 : Nat) : Option (Int32 × Hp) := gQ h a0 1 0 (fun x1_ => gC h x1_ 2 (bnd (GX2_rank n h x1_) (fun r2 u2 => some (r2, u2))))
theorem moX1_rank (n : Nat) (h : Hp) (a0 : Nat) : Mo h (GX1_rank n h a0) := by
  unfold GX1_rank
  exact mo_gQ (fun x1_ => mo_gC (mo_bnd (moX2_rank n h x1_) hle_rf (fun r2 u2 m2 => mo_ret m2)))
set_option maxHeartbeats 4000000 in
set_option maxRecDepth 100000 in
theorem mgX1_rank (l : Launch) (D : HD) (A : Nat → Prop) (h : Hp) (n : Nat) (a0 : Nat) (out : Int32 × Hp) (hF : GX1_rank n h a0 = some out) (mc ms : Nat) (hmc : hCc out.2 = hCc h + mc) (hms : hSl out.2 = hSl h + ms) : Met l yX1_rank (ws_ yX1_rank cX1_rank 1 (some .int)) ({ frames := 6, cells := mc, slots := ms, locals := 140 }) (va_Pc [.ref a0] (hW D A h)) (va_Qi (fun r u => (r, u) = out) (hW D A) A) mc ms A := by
  refine Met.ofW (cc := cX1_rank) (maxL := 1) (ret := (some .int)) (by decide +kernel) rfl ?_
  intro p e s m args below meth c s₁ B hml hv
  obtain ⟨rfl, hr, hGr⟩ := hv
  have hx := B.exec
  have hb := B.bytes
  have hret := B.returns
  have hts := atoms_spec (ws := (ws_ yX1_rank cX1_rank 1 (some .int))) B.pre
  have hts : ∀ w ∈ lw_all, w.before _ s = true := fun w h => hts w (List.mem_cons_of_mem _ h)
  have hown : s.vm.findClass RX1 = some m.cls := findClass_of_methodNamed B.named
  have hlocks := B.notSynchronized
  have hS : va_S A s.heap s.heap [] := va_S.rf
  have hc : cst h 0 0 h := cst_0
  have hl := lv_entry ([.ref a0]) (n := 1) (Nat.le_of_ble_eq_true rfl)
  rw [lg_entry_eq]
  generalize (lg_sl ([.ref a0]) ++ List.replicate (1 - (lg_sl ([.ref a0])).length) Slot.unset).toArray = ls at hl ⊢
  have hl : lv_has ls 1 [(0, .ref a0)] := hl
  unfold GX1_rank at hF
  refine lv_aload_n hx hb dX1_rank_0 rfl (lv_at hl 0 rfl) ?_
  obtain ⟨fs1, x1_, e1, f1, hF⟩ := gQ_s hF
  refine h_get (C := RX1) (T := TX1) (N := 7) hx hb hts in_X1 hown hGr hr e1 (by decide) rfl 0 (by decide) (hts _ q633) (fun _ h9 => h9) f1 dX1_rank_1 ?_
  obtain ⟨fc2, ec2, hF⟩ := gC_s hF
  obtain ⟨r2, u2, e2, hF⟩ := bnd_s hF
  have mm2 : hle u2 out.2 := (show Mo u2 _ from mo_ret hle_rf) _ hF
  obtain ⟨mc2, ms2, hmc2, hms2⟩ := up_of (moX2_rank n h x1_ _ e2)
  replace hc := cst_call hc hmc2 hms2
  refine h_calli (va_runV (As := []) (rest := []) ⟨hx, hb, hml, hown, hts⟩ (mgX2_rank l D A h n x1_ _ e2 mc2 ms2 hmc2 hms2) (cwV 0 hts (lw_V q1083 q1084 q1085 q102 q1086) rfl rfl rfl (by decide +kernel) ⟨Nat.le_of_ble_eq_true rfl, Nat.le_of_ble_eq_true rfl⟩) (h_preV hGr hr hS ec2 (by decide) (q := (RX2, TX2, 11)) rfl _) rfl rfl hl.1 rfl (lv_room (Nat.le_of_ble_eq_true rfl)) dX1_rank_4 ⟨(bud hc mm2 hmc hms).1, (bud hc mm2 hmc hms).2⟩) hS (fun rr uu H locs hw hr hS => ?_)
  obtain rfl : u2 = uu := (congrArg Prod.snd hw).symm
  obtain rfl : r2 = rr := (congrArg Prod.fst hw).symm
  have bz := bud_r hc hF hmc hms
  refine W.widen (k := mc) (n := ms) bz.1 bz.2 ?_
  exact W.iret (v := r2) hx hb hret (fun t ht hWm => ⟨⟨r2, u2, rfl, Option.some.inj hF, h_end hGr hr hS ht hWm⟩, hS.F ht⟩) hS.2.2 dX1_rank_7

def GX1_projected (n : Nat) (h : Hp) (a0 : Nat) (p1 : Int32) (p2 : Int32) : Option ((Int32 ⊕ Xq) × Hp) := nA h 0 (2 : Int32) (fun a1_ h1 => sI h1 a1_ 0 (0 : Int32) p1 (fun h2 => sI h2 a1_ 0 (1 : Int32) p2 (fun h3 => gC h3 a0 1 (bnx (GX1_requireDirections n h3 a0 a1_) (fun r4 u4 => gQ u4 a0 1 0 (fun x5_ => gC u4 x5_ 2 (bnd (GX2_projected_2 n u4 x5_ p1 p2) (fun r6 u6 => some (.inl r6, u6)))))))))
theorem moX1_projected (n : Nat) (h : Hp) (a0 : Nat) (p1 : Int32) (p2 : Int32) : Mo h (GX1_projected n h a0 p1 p2) := by
  unfold GX1_projected
  exact mo_nA hle_rf (fun a1_ h1 m1 => mo_sI m1 (fun h2 m2 => mo_sI m2 (fun h3 m3 => mo_gC (mo_bnx (moX1_requireDirections n h3 a0 a1_) m3 (fun r4 u4 m4 => mo_gQ (fun x5_ => mo_gC (mo_bnd (moX2_projected_2 n u4 x5_ p1 p2) m4 (fun r6 u6 m6 => mo_ret m6))))))))
set_option maxHeartbeats 4000000 in
set_option maxRecDepth 100000 in
theorem mgX1_projected (l : Launch) (hl0 : l.stackTraces = false) (D : HD) (A : Nat → Prop) (h : Hp) (n : Nat) (a0 : Nat) (p1 : Int32) (p2 : Int32) (out : (Int32 ⊕ Xq) × Hp) (hF : GX1_projected n h a0 p1 p2 = some out) (mc ms : Nat) (hmc : hCc out.2 = hCc h + mc) (hms : hSl out.2 = hSl h + ms) : vx_Met l yX1_projected (ws_ yX1_projected cX1_projected 3 (some .int)) ({ frames := 8, cells := mc, slots := ms, locals := 146 }) (va_Pc [.ref a0, .int p1, .int p2] (hW D A h)) (va_Qi (fun r u => ((.inl r : Int32 ⊕ Xq), u) = out) (hW D A) A) (xC D A out) mc ms A := by
  refine vx_ofW (cc := cX1_projected) (maxL := 3) (ret := (some .int)) (by decide +kernel) rfl ?_
  intro p e s m args below meth c s₁ B hml htb hv
  obtain ⟨rfl, hr, hGr⟩ := hv
  have hx := B.exec
  have hb := B.bytes
  have hret := B.returns
  have hts := atoms_spec (ws := (ws_ yX1_projected cX1_projected 3 (some .int))) B.pre
  have hts : ∀ w ∈ lw_all, w.before _ s = true := fun w h => hts w (List.mem_cons_of_mem _ h)
  have hown : s.vm.findClass RX1 = some m.cls := findClass_of_methodNamed B.named
  have hlocks := B.notSynchronized
  have hS : va_S A s.heap s.heap [] := va_S.rf
  have hc : cst h 0 0 h := cst_0
  have hl := lv_entry ([.ref a0, .int p1, .int p2]) (n := 3) (Nat.le_of_ble_eq_true rfl)
  rw [lg_entry_eq]
  generalize (lg_sl ([.ref a0, .int p1, .int p2]) ++ List.replicate (3 - (lg_sl ([.ref a0, .int p1, .int p2])).length) Slot.unset).toArray = ls at hl ⊢
  have hl : lv_has ls 3 [(0, .ref a0), (1, .int p1), (2, .int p2)] := hl
  unfold GX1_projected at hF
  refine lv_aload_n hx hb dX1_projected_0 rfl (lv_at hl 0 rfl) ?_
  refine lv_iconst (v := 2) hx hb dX1_projected_1 (by decide) ?_
  obtain ⟨a1_, h1, ea1, eh1, g1, hF⟩ := nA_s hF
  have mm1 : hle h1 out.2 := (show Mo h1 _ from mo_sI hle_rf (fun h2 m2 => mo_sI m2 (fun h3 m3 => mo_gC (mo_bnx (moX1_requireDirections n h3 a0 a1_) m3 (fun r4 u4 m4 => mo_gQ (fun x5_ => mo_gC (mo_bnd (moX2_projected_2 n u4 x5_ p1 p2) m4 (fun r6 u6 m6 => mo_ret m6)))))))) _ hF
  replace hc := cst_new hc eh1
  refine h_newI hx hb (hts _ q177) hGr hr hS g1 (bud hc mm1 hmc hms).1 (bud hc mm1 hmc hms).2 dX1_projected_2 (fun H hr hS => ?_)
  rw [← eh1] at hr
  rw [← ea1]
  refine lv_dup hx hb dX1_projected_4 rfl ?_
  refine lv_iconst (v := 0) hx hb dX1_projected_5 (by decide) ?_
  refine lv_iload_n hx hb dX1_projected_6 rfl (lv_at hl 1 rfl) ?_
  obtain ⟨n2, f2, e2, lo2, g2, hF⟩ := sI_s hF
  obtain ⟨h2, eh2⟩ : ∃ z, z = hPut h1 a1_ (.inl (0, n2, .inl (upd f2 ((0 : Int32)).toNatClampNeg p1))) := ⟨_, rfl⟩
  rw [← eh2] at hF
  refine h_iast hx hb hGr hr hS 0 rfl e2 (x := p1) g2 lo2 dX1_projected_7 (fun H locs hr hS => ?_)
  rw [← eh2] at hr
  replace hc := cst_put hc eh2
  refine lv_dup hx hb dX1_projected_8 rfl ?_
  refine lv_iconst (v := 1) hx hb dX1_projected_9 (by decide) ?_
  refine lv_iload_n hx hb dX1_projected_10 rfl (lv_at hl 2 rfl) ?_
  obtain ⟨n3, f3, e3, lo3, g3, hF⟩ := sI_s hF
  obtain ⟨h3, eh3⟩ : ∃ z, z = hPut h2 a1_ (.inl (0, n3, .inl (upd f3 ((1 : Int32)).toNatClampNeg p2))) := ⟨_, rfl⟩
  rw [← eh3] at hF
  refine h_iast hx hb hGr hr hS 0 rfl e3 (x := p2) g3 lo3 dX1_projected_11 (fun H locs hr hS => ?_)
  rw [← eh3] at hr
  replace hc := cst_put hc eh3
  obtain ⟨fc4, ec4, hF⟩ := gC_s hF
  rcases bnx_s hF with ⟨r4, u4, e4, hF⟩ | ⟨q4, u4, e4, hF⟩
  rotate_left
  · obtain ⟨mc4, ms4, hmc4, hms4⟩ := up_of (moX1_requireDirections n h3 a0 a1_ _ e4)
    have hcx := cst_call hc hmc4 hms4
    have bx4 := bud_r hcx hF hmc hms
    refine h_xthrv rfl (vx_runV (As := [.ref a1_]) (rest := []) ⟨hx, hb, hml, hown, hts⟩ (mgX1_requireDirections l hl0 D A h3 n a0 a1_ _ e4 mc4 ms4 hmc4 hms4) (cwV 1 hts (lw_V q1836 q1838 qs42 q101 q1839) rfl rfl rfl (by decide +kernel) ⟨Nat.le_of_ble_eq_true rfl, Nat.le_of_ble_eq_true rfl⟩) (h_preV hGr hr hS ec4 (by decide) (q := (RX1, TX1, 7)) rfl _) rfl rfl hl.1 rfl (lv_room (Nat.le_of_ble_eq_true rfl)) dX1_projected_12 ⟨bx4.1, bx4.2⟩) hS (fun E9 q9 u9 H locs ce9 e1 e2 e3 hr hS h1 h2 h3 => ?_)
    exact h_xpass hGr htb hlocks hF bx4 e1 e2 e3 hr hS h1 h2 h3
  have mm4 : hle u4 out.2 := (show Mo u4 _ from mo_gQ (fun x5_ => mo_gC (mo_bnd (moX2_projected_2 n u4 x5_ p1 p2) hle_rf (fun r6 u6 m6 => mo_ret m6)))) _ hF
  obtain ⟨mc4, ms4, hmc4, hms4⟩ := up_of (moX1_requireDirections n h3 a0 a1_ _ e4)
  replace hc := cst_call hc hmc4 hms4
  refine h_xretv rfl (vx_runV (As := [.ref a1_]) (rest := []) ⟨hx, hb, hml, hown, hts⟩ (mgX1_requireDirections l hl0 D A h3 n a0 a1_ _ e4 mc4 ms4 hmc4 hms4) (cwV 1 hts (lw_V q1836 q1838 qs42 q101 q1839) rfl rfl rfl (by decide +kernel) ⟨Nat.le_of_ble_eq_true rfl, Nat.le_of_ble_eq_true rfl⟩) (h_preV hGr hr hS ec4 (by decide) (q := (RX1, TX1, 7)) rfl _) rfl rfl hl.1 rfl (lv_room (Nat.le_of_ble_eq_true rfl)) dX1_projected_12 ⟨(bud hc mm4 hmc hms).1, (bud hc mm4 hmc hms).2⟩) hS (fun H locs hr hS => ?_)
  refine lv_aload_n hx hb dX1_projected_15 rfl (lv_at hl 0 rfl) ?_
  obtain ⟨fs5, x5_, e5, f5, hF⟩ := gQ_s hF
  refine h_get (C := RX1) (T := TX1) (N := 7) hx hb hts in_X1 hown hGr hr e5 (by decide) rfl 0 (by decide) (hts _ q633) (fun _ h9 => h9) f5 dX1_projected_16 ?_
  refine lv_iload_n hx hb dX1_projected_19 rfl (lv_at hl 1 rfl) ?_
  refine lv_iload_n hx hb dX1_projected_20 rfl (lv_at hl 2 rfl) ?_
  obtain ⟨fc6, ec6, hF⟩ := gC_s hF
  obtain ⟨r6, u6, e6, hF⟩ := bnd_s hF
  have mm6 : hle u6 out.2 := (show Mo u6 _ from mo_ret hle_rf) _ hF
  obtain ⟨mc6, ms6, hmc6, hms6⟩ := up_of (moX2_projected_2 n u4 x5_ p1 p2 _ e6)
  replace hc := cst_call hc hmc6 hms6
  refine h_calli (va_runV (As := [.int p1, .int p2]) (rest := []) ⟨hx, hb, hml, hown, hts⟩ (mgX2_projected_2 l D A u4 n x5_ p1 p2 _ e6 mc6 ms6 hmc6 hms6) (cwV 2 hts (lw_V q1866 q1142 q1143 q102 q1144) rfl rfl rfl (by decide +kernel) ⟨Nat.le_of_ble_eq_true rfl, Nat.le_of_ble_eq_true rfl⟩) (h_preV hGr hr hS ec6 (by decide) (q := (RX2, TX2, 11)) rfl _) rfl rfl hl.1 rfl (lv_room (Nat.le_of_ble_eq_true rfl)) dX1_projected_21 ⟨(bud hc mm6 hmc hms).1, (bud hc mm6 hmc hms).2⟩) hS (fun rr uu H locs hw hr hS => ?_)
  obtain rfl : u6 = uu := (congrArg Prod.snd hw).symm
  obtain rfl : r6 = rr := (congrArg Prod.fst hw).symm
  have bz := bud_r hc hF hmc hms
  refine vx_ret ?_
  refine W.widen (k := mc) (n := ms) bz.1 bz.2 ?_
  exact W.iret (v := r6) hx hb hret (fun t ht hWm => ⟨⟨r6, u6, rfl, Option.some.inj hF, h_end hGr hr hS ht hWm⟩, hS.F ht⟩) hS.2.2 dX1_projected_24

def GX1_reach (n : Nat) (h : Hp) (a0 : Nat) : Option (Int32 × Hp) := gQ h a0 1 0 (fun x1_ => gQ h a0 1 0 (fun x2_ => gQ h x2_ 2 3 (fun x3_ => gC h x1_ 2 (bnd (GX2_reach n h x1_ x3_) (fun r4 u4 => some (r4, u4))))))
theorem moX1_reach (n : Nat) (h : Hp) (a0 : Nat) : Mo h (GX1_reach n h a0) := by
  unfold GX1_reach
  exact mo_gQ (fun x1_ => mo_gQ (fun x2_ => mo_gQ (fun x3_ => mo_gC (mo_bnd (moX2_reach n h x1_ x3_) hle_rf (fun r4 u4 m4 => mo_ret m4)))))
set_option maxHeartbeats 4000000 in
set_option maxRecDepth 100000 in
theorem mgX1_reach (l : Launch) (D : HD) (A : Nat → Prop) (h : Hp) (n : Nat) (a0 : Nat) (out : Int32 × Hp) (hF : GX1_reach n h a0 = some out) (mc ms : Nat) (hmc : hCc out.2 = hCc h + mc) (hms : hSl out.2 = hSl h + ms) : Met l yX1_reach (ws_ yX1_reach cX1_reach 1 (some .int)) ({ frames := 6, cells := mc, slots := ms, locals := 142 }) (va_Pc [.ref a0] (hW D A h)) (va_Qi (fun r u => (r, u) = out) (hW D A) A) mc ms A := by
  refine Met.ofW (cc := cX1_reach) (maxL := 1) (ret := (some .int)) (by decide +kernel) rfl ?_
  intro p e s m args below meth c s₁ B hml hv
  obtain ⟨rfl, hr, hGr⟩ := hv
  have hx := B.exec
  have hb := B.bytes
  have hret := B.returns
  have hts := atoms_spec (ws := (ws_ yX1_reach cX1_reach 1 (some .int))) B.pre
  have hts : ∀ w ∈ lw_all, w.before _ s = true := fun w h => hts w (List.mem_cons_of_mem _ h)
  have hown : s.vm.findClass RX1 = some m.cls := findClass_of_methodNamed B.named
  have hlocks := B.notSynchronized
  have hS : va_S A s.heap s.heap [] := va_S.rf
  have hc : cst h 0 0 h := cst_0
  have hl := lv_entry ([.ref a0]) (n := 1) (Nat.le_of_ble_eq_true rfl)
  rw [lg_entry_eq]
  generalize (lg_sl ([.ref a0]) ++ List.replicate (1 - (lg_sl ([.ref a0])).length) Slot.unset).toArray = ls at hl ⊢
  have hl : lv_has ls 1 [(0, .ref a0)] := hl
  unfold GX1_reach at hF
  refine lv_aload_n hx hb dX1_reach_0 rfl (lv_at hl 0 rfl) ?_
  obtain ⟨fs1, x1_, e1, f1, hF⟩ := gQ_s hF
  refine h_get (C := RX1) (T := TX1) (N := 7) hx hb hts in_X1 hown hGr hr e1 (by decide) rfl 0 (by decide) (hts _ q633) (fun _ h9 => h9) f1 dX1_reach_1 ?_
  refine lv_aload_n hx hb dX1_reach_4 rfl (lv_at hl 0 rfl) ?_
  obtain ⟨fs2, x2_, e2, f2, hF⟩ := gQ_s hF
  refine h_get (C := RX1) (T := TX1) (N := 7) hx hb hts in_X1 hown hGr hr e2 (by decide) rfl 0 (by decide) (hts _ q633) (fun _ h9 => h9) f2 dX1_reach_5 ?_
  obtain ⟨fs3, x3_, e3, f3, hF⟩ := gQ_s hF
  refine h_getN (C := RX2) (T := TX2) (N := 11) hx hb hts in_X2 hown hGr hr e3 (by decide) rfl 3 (by decide) (va_Nw.use rfl (hGr.nw q572 rfl)) (fun _ h9 => h9) f3 dX1_reach_8 ?_
  obtain ⟨fc4, ec4, hF⟩ := gC_s hF
  obtain ⟨r4, u4, e4, hF⟩ := bnd_s hF
  have mm4 : hle u4 out.2 := (show Mo u4 _ from mo_ret hle_rf) _ hF
  obtain ⟨mc4, ms4, hmc4, hms4⟩ := up_of (moX2_reach n h x1_ x3_ _ e4)
  replace hc := cst_call hc hmc4 hms4
  refine h_calli (va_runV (As := [.ref x3_]) (rest := []) ⟨hx, hb, hml, hown, hts⟩ (mgX2_reach l D A h n x1_ x3_ _ e4 mc4 ms4 hmc4 hms4) (cwV 1 hts (lw_V q1199 q1200 q1201 q102 q1202) rfl rfl rfl (by decide +kernel) ⟨Nat.le_of_ble_eq_true rfl, Nat.le_of_ble_eq_true rfl⟩) (h_preV hGr hr hS ec4 (by decide) (q := (RX2, TX2, 11)) rfl _) rfl rfl hl.1 rfl (lv_room (Nat.le_of_ble_eq_true rfl)) dX1_reach_11 ⟨(bud hc mm4 hmc hms).1, (bud hc mm4 hmc hms).2⟩) hS (fun rr uu H locs hw hr hS => ?_)
  obtain rfl : u4 = uu := (congrArg Prod.snd hw).symm
  obtain rfl : r4 = rr := (congrArg Prod.fst hw).symm
  have bz := bud_r hc hF hmc hms
  refine W.widen (k := mc) (n := ms) bz.1 bz.2 ?_
  exact W.iret (v := r4) hx hb hret (fun t ht hWm => ⟨⟨r4, u4, rfl, Option.some.inj hF, h_end hGr hr hS ht hWm⟩, hS.F ht⟩) hS.2.2 dX1_reach_14

def GX1_reachOf (n : Nat) (h : Hp) (a0 : Nat) (p1 : Int32) : Option ((Int32 ⊕ Xq) × Hp) := nA h 0 (1 : Int32) (fun a1_ h1 => sI h1 a1_ 0 (0 : Int32) p1 (fun h2 => gC h2 a0 1 (bnx (GX1_requirePlaces n h2 a0 a1_) (fun r3 u3 => gQ u3 a0 1 0 (fun x4_ => gQ u3 a0 1 0 (fun x5_ => gI u3 x5_ 2 1 (fun x6_ => bnd (GX4_unit u3 x6_ p1) (fun r7 u7 => gC u7 x4_ 2 (bnd (GX2_reach n u7 x4_ r7) (fun r8 u8 => some (.inl r8, u8)))))))))))
theorem moX1_reachOf (n : Nat) (h : Hp) (a0 : Nat) (p1 : Int32) : Mo h (GX1_reachOf n h a0 p1) := by
  unfold GX1_reachOf
  exact mo_nA hle_rf (fun a1_ h1 m1 => mo_sI m1 (fun h2 m2 => mo_gC (mo_bnx (moX1_requirePlaces n h2 a0 a1_) m2 (fun r3 u3 m3 => mo_gQ (fun x4_ => mo_gQ (fun x5_ => mo_gI (fun x6_ => mo_bnd (moX4_unit u3 x6_ p1) m3 (fun r7 u7 m7 => mo_gC (mo_bnd (moX2_reach n u7 x4_ r7) m7 (fun r8 u8 m8 => mo_ret m8))))))))))
set_option maxHeartbeats 4000000 in
set_option maxRecDepth 100000 in
theorem mgX1_reachOf (l : Launch) (hl0 : l.stackTraces = false) (D : HD) (A : Nat → Prop) (h : Hp) (n : Nat) (a0 : Nat) (p1 : Int32) (out : (Int32 ⊕ Xq) × Hp) (hF : GX1_reachOf n h a0 p1 = some out) (mc ms : Nat) (hmc : hCc out.2 = hCc h + mc) (hms : hSl out.2 = hSl h + ms) : vx_Met l yX1_reachOf (ws_ yX1_reachOf cX1_reachOf 2 (some .int)) ({ frames := 8, cells := mc, slots := ms, locals := 146 }) (va_Pc [.ref a0, .int p1] (hW D A h)) (va_Qi (fun r u => ((.inl r : Int32 ⊕ Xq), u) = out) (hW D A) A) (xC D A out) mc ms A := by
  refine vx_ofW (cc := cX1_reachOf) (maxL := 2) (ret := (some .int)) (by decide +kernel) rfl ?_
  intro p e s m args below meth c s₁ B hml htb hv
  obtain ⟨rfl, hr, hGr⟩ := hv
  have hx := B.exec
  have hb := B.bytes
  have hret := B.returns
  have hts := atoms_spec (ws := (ws_ yX1_reachOf cX1_reachOf 2 (some .int))) B.pre
  have hts : ∀ w ∈ lw_all, w.before _ s = true := fun w h => hts w (List.mem_cons_of_mem _ h)
  have hown : s.vm.findClass RX1 = some m.cls := findClass_of_methodNamed B.named
  have hlocks := B.notSynchronized
  have hS : va_S A s.heap s.heap [] := va_S.rf
  have hc : cst h 0 0 h := cst_0
  have hl := lv_entry ([.ref a0, .int p1]) (n := 2) (Nat.le_of_ble_eq_true rfl)
  rw [lg_entry_eq]
  generalize (lg_sl ([.ref a0, .int p1]) ++ List.replicate (2 - (lg_sl ([.ref a0, .int p1])).length) Slot.unset).toArray = ls at hl ⊢
  have hl : lv_has ls 2 [(0, .ref a0), (1, .int p1)] := hl
  unfold GX1_reachOf at hF
  refine lv_aload_n hx hb dX1_reachOf_0 rfl (lv_at hl 0 rfl) ?_
  refine lv_iconst (v := 1) hx hb dX1_reachOf_1 (by decide) ?_
  obtain ⟨a1_, h1, ea1, eh1, g1, hF⟩ := nA_s hF
  have mm1 : hle h1 out.2 := (show Mo h1 _ from mo_sI hle_rf (fun h2 m2 => mo_gC (mo_bnx (moX1_requirePlaces n h2 a0 a1_) m2 (fun r3 u3 m3 => mo_gQ (fun x4_ => mo_gQ (fun x5_ => mo_gI (fun x6_ => mo_bnd (moX4_unit u3 x6_ p1) m3 (fun r7 u7 m7 => mo_gC (mo_bnd (moX2_reach n u7 x4_ r7) m7 (fun r8 u8 m8 => mo_ret m8)))))))))) _ hF
  replace hc := cst_new hc eh1
  refine h_newI hx hb (hts _ q177) hGr hr hS g1 (bud hc mm1 hmc hms).1 (bud hc mm1 hmc hms).2 dX1_reachOf_2 (fun H hr hS => ?_)
  rw [← eh1] at hr
  rw [← ea1]
  refine lv_dup hx hb dX1_reachOf_4 rfl ?_
  refine lv_iconst (v := 0) hx hb dX1_reachOf_5 (by decide) ?_
  refine lv_iload_n hx hb dX1_reachOf_6 rfl (lv_at hl 1 rfl) ?_
  obtain ⟨n2, f2, e2, lo2, g2, hF⟩ := sI_s hF
  obtain ⟨h2, eh2⟩ : ∃ z, z = hPut h1 a1_ (.inl (0, n2, .inl (upd f2 ((0 : Int32)).toNatClampNeg p1))) := ⟨_, rfl⟩
  rw [← eh2] at hF
  refine h_iast hx hb hGr hr hS 0 rfl e2 (x := p1) g2 lo2 dX1_reachOf_7 (fun H locs hr hS => ?_)
  rw [← eh2] at hr
  replace hc := cst_put hc eh2
  obtain ⟨fc3, ec3, hF⟩ := gC_s hF
  rcases bnx_s hF with ⟨r3, u3, e3, hF⟩ | ⟨q3, u3, e3, hF⟩
  rotate_left
  · obtain ⟨mc3, ms3, hmc3, hms3⟩ := up_of (moX1_requirePlaces n h2 a0 a1_ _ e3)
    have hcx := cst_call hc hmc3 hms3
    have bx3 := bud_r hcx hF hmc hms
    refine h_xthrv rfl (vx_runV (As := [.ref a1_]) (rest := []) ⟨hx, hb, hml, hown, hts⟩ (mgX1_requirePlaces l hl0 D A h2 n a0 a1_ _ e3 mc3 ms3 hmc3 hms3) (cwV 1 hts (lw_V q1689 q1691 qs38 q101 q1692) rfl rfl rfl (by decide +kernel) ⟨Nat.le_of_ble_eq_true rfl, Nat.le_of_ble_eq_true rfl⟩) (h_preV hGr hr hS ec3 (by decide) (q := (RX1, TX1, 7)) rfl _) rfl rfl hl.1 rfl (lv_room (Nat.le_of_ble_eq_true rfl)) dX1_reachOf_8 ⟨bx3.1, bx3.2⟩) hS (fun E9 q9 u9 H locs ce9 e1 e2 e3 hr hS h1 h2 h3 => ?_)
    exact h_xpass hGr htb hlocks hF bx3 e1 e2 e3 hr hS h1 h2 h3
  have mm3 : hle u3 out.2 := (show Mo u3 _ from mo_gQ (fun x4_ => mo_gQ (fun x5_ => mo_gI (fun x6_ => mo_bnd (moX4_unit u3 x6_ p1) hle_rf (fun r7 u7 m7 => mo_gC (mo_bnd (moX2_reach n u7 x4_ r7) m7 (fun r8 u8 m8 => mo_ret m8))))))) _ hF
  obtain ⟨mc3, ms3, hmc3, hms3⟩ := up_of (moX1_requirePlaces n h2 a0 a1_ _ e3)
  replace hc := cst_call hc hmc3 hms3
  refine h_xretv rfl (vx_runV (As := [.ref a1_]) (rest := []) ⟨hx, hb, hml, hown, hts⟩ (mgX1_requirePlaces l hl0 D A h2 n a0 a1_ _ e3 mc3 ms3 hmc3 hms3) (cwV 1 hts (lw_V q1689 q1691 qs38 q101 q1692) rfl rfl rfl (by decide +kernel) ⟨Nat.le_of_ble_eq_true rfl, Nat.le_of_ble_eq_true rfl⟩) (h_preV hGr hr hS ec3 (by decide) (q := (RX1, TX1, 7)) rfl _) rfl rfl hl.1 rfl (lv_room (Nat.le_of_ble_eq_true rfl)) dX1_reachOf_8 ⟨(bud hc mm3 hmc hms).1, (bud hc mm3 hmc hms).2⟩) hS (fun H locs hr hS => ?_)
  refine lv_aload_n hx hb dX1_reachOf_11 rfl (lv_at hl 0 rfl) ?_
  obtain ⟨fs4, x4_, e4, f4, hF⟩ := gQ_s hF
  refine h_get (C := RX1) (T := TX1) (N := 7) hx hb hts in_X1 hown hGr hr e4 (by decide) rfl 0 (by decide) (hts _ q633) (fun _ h9 => h9) f4 dX1_reachOf_12 ?_
  refine lv_aload_n hx hb dX1_reachOf_15 rfl (lv_at hl 0 rfl) ?_
  obtain ⟨fs5, x5_, e5, f5, hF⟩ := gQ_s hF
  refine h_get (C := RX1) (T := TX1) (N := 7) hx hb hts in_X1 hown hGr hr e5 (by decide) rfl 0 (by decide) (hts _ q633) (fun _ h9 => h9) f5 dX1_reachOf_16 ?_
  obtain ⟨fs6, x6_, e6, f6, hF⟩ := gI_s hF
  refine h_getN (C := RX2) (T := TX2) (N := 11) hx hb hts in_X2 hown hGr hr e6 (by decide) rfl 1 (by decide) (va_Nw.use rfl (hGr.nw q567 rfl)) (fun _ h9 => h9) f6 dX1_reachOf_19 ?_
  refine lv_iload_n hx hb dX1_reachOf_22 rfl (lv_at hl 1 rfl) ?_
  obtain ⟨r7, u7, e7, hF⟩ := bnd_s hF
  have mm7 : hle u7 out.2 := (show Mo u7 _ from mo_gC (mo_bnd (moX2_reach n u7 x4_ r7) hle_rf (fun r8 u8 m8 => mo_ret m8))) _ hF
  obtain ⟨mc7, ms7, hmc7, hms7⟩ := up_of (moX4_unit u3 x6_ p1 _ e7)
  replace hc := cst_call hc hmc7 hms7
  refine h_callr (va_runS (As := [.int x6_, .int p1]) (rest := [.ref x4_]) ⟨hx, hb, hml, hown, hts⟩ (mgX4_unit l D A u3 x6_ p1 _ e7 mc7 ms7 hmc7 hms7) (va_cwS 2 hts (lw_S q1816 q1005 q123 q1006) rfl rfl rfl (by decide +kernel) ⟨Nat.le_of_ble_eq_true rfl, Nat.le_of_ble_eq_true rfl⟩) (h_preS hGr hr hS _) rfl rfl hl.1 rfl (lv_room (Nat.le_of_ble_eq_true rfl)) dX1_reachOf_23 ⟨(bud hc mm7 hmc hms).1, (bud hc mm7 hmc hms).2⟩) hS (fun rr uu H locs hw hr hS => ?_)
  obtain rfl : u7 = uu := (congrArg Prod.snd hw).symm
  obtain rfl : r7 = rr := (congrArg Prod.fst hw).symm
  obtain ⟨fc8, ec8, hF⟩ := gC_s hF
  obtain ⟨r8, u8, e8, hF⟩ := bnd_s hF
  have mm8 : hle u8 out.2 := (show Mo u8 _ from mo_ret hle_rf) _ hF
  obtain ⟨mc8, ms8, hmc8, hms8⟩ := up_of (moX2_reach n u7 x4_ r7 _ e8)
  replace hc := cst_call hc hmc8 hms8
  refine h_calli (va_runV (As := [.ref r7]) (rest := []) ⟨hx, hb, hml, hown, hts⟩ (mgX2_reach l D A u7 n x4_ r7 _ e8 mc8 ms8 hmc8 hms8) (cwV 1 hts (lw_V q1199 q1200 q1201 q102 q1202) rfl rfl rfl (by decide +kernel) ⟨Nat.le_of_ble_eq_true rfl, Nat.le_of_ble_eq_true rfl⟩) (h_preV hGr hr hS ec8 (by decide) (q := (RX2, TX2, 11)) rfl _) rfl rfl hl.1 rfl (lv_room (Nat.le_of_ble_eq_true rfl)) dX1_reachOf_26 ⟨(bud hc mm8 hmc hms).1, (bud hc mm8 hmc hms).2⟩) hS (fun rr uu H locs hw hr hS => ?_)
  obtain rfl : u8 = uu := (congrArg Prod.snd hw).symm
  obtain rfl : r8 = rr := (congrArg Prod.fst hw).symm
  have bz := bud_r hc hF hmc hms
  refine vx_ret ?_
  refine W.widen (k := mc) (n := ms) bz.1 bz.2 ?_
  exact W.iret (v := r8) hx hb hret (fun t ht hWm => ⟨⟨r8, u8, rfl, Option.some.inj hF, h_end hGr hr hS ht hWm⟩, hS.F ht⟩) hS.2.2 dX1_reachOf_29

def GX1_remainder (n : Nat) (h : Hp) (a0 : Nat) (p1 : Int32) (p2 : Int32) : Option ((Int32 ⊕ Xq) × Hp) := nA h 0 (2 : Int32) (fun a1_ h1 => sI h1 a1_ 0 (0 : Int32) p1 (fun h2 => sI h2 a1_ 0 (1 : Int32) p2 (fun h3 => gC h3 a0 1 (bnx (GX1_requirePlaces n h3 a0 a1_) (fun r4 u4 => gQ u4 a0 1 0 (fun x5_ => gQ u4 a0 1 0 (fun x6_ => gI u4 x6_ 2 1 (fun x7_ => bnd (GX4_unit u4 x7_ p1) (fun r8 u8 => gC u8 x5_ 2 (bnd (GX2_remainder n u8 x5_ r8) (fun r9 u9 => gQ u9 r9 4 0 (fun x10_ => aI u9 x10_ 0 p2 (fun x11_ => some (.inl x11_, u9))))))))))))))
theorem moX1_remainder (n : Nat) (h : Hp) (a0 : Nat) (p1 : Int32) (p2 : Int32) : Mo h (GX1_remainder n h a0 p1 p2) := by
  unfold GX1_remainder
  exact mo_nA hle_rf (fun a1_ h1 m1 => mo_sI m1 (fun h2 m2 => mo_sI m2 (fun h3 m3 => mo_gC (mo_bnx (moX1_requirePlaces n h3 a0 a1_) m3 (fun r4 u4 m4 => mo_gQ (fun x5_ => mo_gQ (fun x6_ => mo_gI (fun x7_ => mo_bnd (moX4_unit u4 x7_ p1) m4 (fun r8 u8 m8 => mo_gC (mo_bnd (moX2_remainder n u8 x5_ r8) m8 (fun r9 u9 m9 => mo_gQ (fun x10_ => mo_aI (fun x11_ => mo_ret m9)))))))))))))
set_option maxHeartbeats 4000000 in
set_option maxRecDepth 100000 in
theorem mgX1_remainder (l : Launch) (hl0 : l.stackTraces = false) (D : HD) (A : Nat → Prop) (h : Hp) (n : Nat) (a0 : Nat) (p1 : Int32) (p2 : Int32) (out : (Int32 ⊕ Xq) × Hp) (hF : GX1_remainder n h a0 p1 p2 = some out) (mc ms : Nat) (hmc : hCc out.2 = hCc h + mc) (hms : hSl out.2 = hSl h + ms) : vx_Met l yX1_remainder (ws_ yX1_remainder cX1_remainder 3 (some .int)) ({ frames := 8, cells := mc, slots := ms, locals := 146 }) (va_Pc [.ref a0, .int p1, .int p2] (hW D A h)) (va_Qi (fun r u => ((.inl r : Int32 ⊕ Xq), u) = out) (hW D A) A) (xC D A out) mc ms A := by
  refine vx_ofW (cc := cX1_remainder) (maxL := 3) (ret := (some .int)) (by decide +kernel) rfl ?_
  intro p e s m args below meth c s₁ B hml htb hv
  obtain ⟨rfl, hr, hGr⟩ := hv
  have hx := B.exec
  have hb := B.bytes
  have hret := B.returns
  have hts := atoms_spec (ws := (ws_ yX1_remainder cX1_remainder 3 (some .int))) B.pre
  have hts : ∀ w ∈ lw_all, w.before _ s = true := fun w h => hts w (List.mem_cons_of_mem _ h)
  have hown : s.vm.findClass RX1 = some m.cls := findClass_of_methodNamed B.named
  have hlocks := B.notSynchronized
  have hS : va_S A s.heap s.heap [] := va_S.rf
  have hc : cst h 0 0 h := cst_0
  have hl := lv_entry ([.ref a0, .int p1, .int p2]) (n := 3) (Nat.le_of_ble_eq_true rfl)
  rw [lg_entry_eq]
  generalize (lg_sl ([.ref a0, .int p1, .int p2]) ++ List.replicate (3 - (lg_sl ([.ref a0, .int p1, .int p2])).length) Slot.unset).toArray = ls at hl ⊢
  have hl : lv_has ls 3 [(0, .ref a0), (1, .int p1), (2, .int p2)] := hl
  unfold GX1_remainder at hF
  refine lv_aload_n hx hb dX1_remainder_0 rfl (lv_at hl 0 rfl) ?_
  refine lv_iconst (v := 2) hx hb dX1_remainder_1 (by decide) ?_
  obtain ⟨a1_, h1, ea1, eh1, g1, hF⟩ := nA_s hF
  have mm1 : hle h1 out.2 := (show Mo h1 _ from mo_sI hle_rf (fun h2 m2 => mo_sI m2 (fun h3 m3 => mo_gC (mo_bnx (moX1_requirePlaces n h3 a0 a1_) m3 (fun r4 u4 m4 => mo_gQ (fun x5_ => mo_gQ (fun x6_ => mo_gI (fun x7_ => mo_bnd (moX4_unit u4 x7_ p1) m4 (fun r8 u8 m8 => mo_gC (mo_bnd (moX2_remainder n u8 x5_ r8) m8 (fun r9 u9 m9 => mo_gQ (fun x10_ => mo_aI (fun x11_ => mo_ret m9))))))))))))) _ hF
  replace hc := cst_new hc eh1
  refine h_newI hx hb (hts _ q177) hGr hr hS g1 (bud hc mm1 hmc hms).1 (bud hc mm1 hmc hms).2 dX1_remainder_2 (fun H hr hS => ?_)
  rw [← eh1] at hr
  rw [← ea1]
  refine lv_dup hx hb dX1_remainder_4 rfl ?_
  refine lv_iconst (v := 0) hx hb dX1_remainder_5 (by decide) ?_
  refine lv_iload_n hx hb dX1_remainder_6 rfl (lv_at hl 1 rfl) ?_
  obtain ⟨n2, f2, e2, lo2, g2, hF⟩ := sI_s hF
  obtain ⟨h2, eh2⟩ : ∃ z, z = hPut h1 a1_ (.inl (0, n2, .inl (upd f2 ((0 : Int32)).toNatClampNeg p1))) := ⟨_, rfl⟩
  rw [← eh2] at hF
  refine h_iast hx hb hGr hr hS 0 rfl e2 (x := p1) g2 lo2 dX1_remainder_7 (fun H locs hr hS => ?_)
  rw [← eh2] at hr
  replace hc := cst_put hc eh2
  refine lv_dup hx hb dX1_remainder_8 rfl ?_
  refine lv_iconst (v := 1) hx hb dX1_remainder_9 (by decide) ?_
  refine lv_iload_n hx hb dX1_remainder_10 rfl (lv_at hl 2 rfl) ?_
  obtain ⟨n3, f3, e3, lo3, g3, hF⟩ := sI_s hF
  obtain ⟨h3, eh3⟩ : ∃ z, z = hPut h2 a1_ (.inl (0, n3, .inl (upd f3 ((1 : Int32)).toNatClampNeg p2))) := ⟨_, rfl⟩
  rw [← eh3] at hF
  refine h_iast hx hb hGr hr hS 0 rfl e3 (x := p2) g3 lo3 dX1_remainder_11 (fun H locs hr hS => ?_)
  rw [← eh3] at hr
  replace hc := cst_put hc eh3
  obtain ⟨fc4, ec4, hF⟩ := gC_s hF
  rcases bnx_s hF with ⟨r4, u4, e4, hF⟩ | ⟨q4, u4, e4, hF⟩
  rotate_left
  · obtain ⟨mc4, ms4, hmc4, hms4⟩ := up_of (moX1_requirePlaces n h3 a0 a1_ _ e4)
    have hcx := cst_call hc hmc4 hms4
    have bx4 := bud_r hcx hF hmc hms
    refine h_xthrv rfl (vx_runV (As := [.ref a1_]) (rest := []) ⟨hx, hb, hml, hown, hts⟩ (mgX1_requirePlaces l hl0 D A h3 n a0 a1_ _ e4 mc4 ms4 hmc4 hms4) (cwV 1 hts (lw_V q1689 q1691 qs38 q101 q1692) rfl rfl rfl (by decide +kernel) ⟨Nat.le_of_ble_eq_true rfl, Nat.le_of_ble_eq_true rfl⟩) (h_preV hGr hr hS ec4 (by decide) (q := (RX1, TX1, 7)) rfl _) rfl rfl hl.1 rfl (lv_room (Nat.le_of_ble_eq_true rfl)) dX1_remainder_12 ⟨bx4.1, bx4.2⟩) hS (fun E9 q9 u9 H locs ce9 e1 e2 e3 hr hS h1 h2 h3 => ?_)
    exact h_xpass hGr htb hlocks hF bx4 e1 e2 e3 hr hS h1 h2 h3
  have mm4 : hle u4 out.2 := (show Mo u4 _ from mo_gQ (fun x5_ => mo_gQ (fun x6_ => mo_gI (fun x7_ => mo_bnd (moX4_unit u4 x7_ p1) hle_rf (fun r8 u8 m8 => mo_gC (mo_bnd (moX2_remainder n u8 x5_ r8) m8 (fun r9 u9 m9 => mo_gQ (fun x10_ => mo_aI (fun x11_ => mo_ret m9))))))))) _ hF
  obtain ⟨mc4, ms4, hmc4, hms4⟩ := up_of (moX1_requirePlaces n h3 a0 a1_ _ e4)
  replace hc := cst_call hc hmc4 hms4
  refine h_xretv rfl (vx_runV (As := [.ref a1_]) (rest := []) ⟨hx, hb, hml, hown, hts⟩ (mgX1_requirePlaces l hl0 D A h3 n a0 a1_ _ e4 mc4 ms4 hmc4 hms4) (cwV 1 hts (lw_V q1689 q1691 qs38 q101 q1692) rfl rfl rfl (by decide +kernel) ⟨Nat.le_of_ble_eq_true rfl, Nat.le_of_ble_eq_true rfl⟩) (h_preV hGr hr hS ec4 (by decide) (q := (RX1, TX1, 7)) rfl _) rfl rfl hl.1 rfl (lv_room (Nat.le_of_ble_eq_true rfl)) dX1_remainder_12 ⟨(bud hc mm4 hmc hms).1, (bud hc mm4 hmc hms).2⟩) hS (fun H locs hr hS => ?_)
  refine lv_aload_n hx hb dX1_remainder_15 rfl (lv_at hl 0 rfl) ?_
  obtain ⟨fs5, x5_, e5, f5, hF⟩ := gQ_s hF
  refine h_get (C := RX1) (T := TX1) (N := 7) hx hb hts in_X1 hown hGr hr e5 (by decide) rfl 0 (by decide) (hts _ q633) (fun _ h9 => h9) f5 dX1_remainder_16 ?_
  refine lv_aload_n hx hb dX1_remainder_19 rfl (lv_at hl 0 rfl) ?_
  obtain ⟨fs6, x6_, e6, f6, hF⟩ := gQ_s hF
  refine h_get (C := RX1) (T := TX1) (N := 7) hx hb hts in_X1 hown hGr hr e6 (by decide) rfl 0 (by decide) (hts _ q633) (fun _ h9 => h9) f6 dX1_remainder_20 ?_
  obtain ⟨fs7, x7_, e7, f7, hF⟩ := gI_s hF
  refine h_getN (C := RX2) (T := TX2) (N := 11) hx hb hts in_X2 hown hGr hr e7 (by decide) rfl 1 (by decide) (va_Nw.use rfl (hGr.nw q567 rfl)) (fun _ h9 => h9) f7 dX1_remainder_23 ?_
  refine lv_iload_n hx hb dX1_remainder_26 rfl (lv_at hl 1 rfl) ?_
  obtain ⟨r8, u8, e8, hF⟩ := bnd_s hF
  have mm8 : hle u8 out.2 := (show Mo u8 _ from mo_gC (mo_bnd (moX2_remainder n u8 x5_ r8) hle_rf (fun r9 u9 m9 => mo_gQ (fun x10_ => mo_aI (fun x11_ => mo_ret m9))))) _ hF
  obtain ⟨mc8, ms8, hmc8, hms8⟩ := up_of (moX4_unit u4 x7_ p1 _ e8)
  replace hc := cst_call hc hmc8 hms8
  refine h_callr (va_runS (As := [.int x7_, .int p1]) (rest := [.ref x5_]) ⟨hx, hb, hml, hown, hts⟩ (mgX4_unit l D A u4 x7_ p1 _ e8 mc8 ms8 hmc8 hms8) (va_cwS 2 hts (lw_S q1816 q1005 q123 q1006) rfl rfl rfl (by decide +kernel) ⟨Nat.le_of_ble_eq_true rfl, Nat.le_of_ble_eq_true rfl⟩) (h_preS hGr hr hS _) rfl rfl hl.1 rfl (lv_room (Nat.le_of_ble_eq_true rfl)) dX1_remainder_27 ⟨(bud hc mm8 hmc hms).1, (bud hc mm8 hmc hms).2⟩) hS (fun rr uu H locs hw hr hS => ?_)
  obtain rfl : u8 = uu := (congrArg Prod.snd hw).symm
  obtain rfl : r8 = rr := (congrArg Prod.fst hw).symm
  obtain ⟨fc9, ec9, hF⟩ := gC_s hF
  obtain ⟨r9, u9, e9, hF⟩ := bnd_s hF
  have mm9 : hle u9 out.2 := (show Mo u9 _ from mo_gQ (fun x10_ => mo_aI (fun x11_ => mo_ret hle_rf))) _ hF
  obtain ⟨mc9, ms9, hmc9, hms9⟩ := up_of (moX2_remainder n u8 x5_ r8 _ e9)
  replace hc := cst_call hc hmc9 hms9
  refine h_callr (va_runV (As := [.ref r8]) (rest := []) ⟨hx, hb, hml, hown, hts⟩ (mgX2_remainder l D A u8 n x5_ r8 _ e9 mc9 ms9 hmc9 hms9) (cwV 1 hts (lw_V q1918 q1010 q1011 q102 q1012) rfl rfl rfl (by decide +kernel) ⟨Nat.le_of_ble_eq_true rfl, Nat.le_of_ble_eq_true rfl⟩) (h_preV hGr hr hS ec9 (by decide) (q := (RX2, TX2, 11)) rfl _) rfl rfl hl.1 rfl (lv_room (Nat.le_of_ble_eq_true rfl)) dX1_remainder_30 ⟨(bud hc mm9 hmc hms).1, (bud hc mm9 hmc hms).2⟩) hS (fun rr uu H locs hw hr hS => ?_)
  obtain rfl : u9 = uu := (congrArg Prod.snd hw).symm
  obtain rfl : r9 = rr := (congrArg Prod.fst hw).symm
  obtain ⟨fs10, x10_, e10, f10, hF⟩ := gQ_s hF
  refine h_getN (C := RX4) (T := TX4) (N := 1) hx hb hts in_X4 hown hGr hr e10 (by decide) rfl 0 (by decide) (va_Nw.use rfl (hGr.nw q557 rfl)) (fun _ h9 => h9) f10 dX1_remainder_33 ?_
  refine lv_iload_n hx hb dX1_remainder_36 rfl (lv_at hl 2 rfl) ?_
  obtain ⟨n11, f11, e11, g11, hF⟩ := aI_s hF
  obtain ⟨x11_, ex11⟩ : ∃ z, z = f11 (p2).toNatClampNeg := ⟨_, rfl⟩
  rw [← ex11] at hF
  refine h_iald hx hb hGr hr 0 rfl e11 g11 dX1_remainder_37 ?_
  rw [← ex11]
  have bz := bud_r hc hF hmc hms
  refine vx_ret ?_
  refine W.widen (k := mc) (n := ms) bz.1 bz.2 ?_
  exact W.iret (v := x11_) hx hb hret (fun t ht hWm => ⟨⟨x11_, u9, rfl, Option.some.inj hF, h_end hGr hr hS ht hWm⟩, hS.F ht⟩) hS.2.2 dX1_remainder_38

def GX1_undo (h : Hp) (a0 : Nat) : Option ((Int32 ⊕ Xq) × Hp) := gQ h a0 1 1 (fun x1_ => gC h x1_ 11 (bnd (GJ17_isEmpty h x1_) (fun r2 u2 => if r2 = 0 then bnx (GX1_requireState u2 (1 : Int32)) (fun r11 u11 => gQ u11 a0 1 1 (fun x12_ => gC u11 x12_ 11 (bnd (GJ17_removeLast u11 x12_) (fun r13 u13 => gC u13 r13 2 (pV u13 a0 1 0 (.ref r13) (fun h15 => gQ h15 a0 1 1 (fun x16_ => gC h15 x16_ 11 (bnd (GJ17_size h15 x16_) (fun r17 u17 => some (.inl r17, u17)))))))))) else bnx (GX1_requireState u2 (0 : Int32)) (fun r4 u4 => gQ u4 a0 1 1 (fun x5_ => gC u4 x5_ 11 (bnd (GJ17_removeLast u4 x5_) (fun r6 u6 => gC u6 r6 2 (pV u6 a0 1 0 (.ref r6) (fun h8 => gQ h8 a0 1 1 (fun x9_ => gC h8 x9_ 11 (bnd (GJ17_size h8 x9_) (fun r10 u10 => some (.inl r10, u10)))))))))))))
theorem moX1_undo (h : Hp) (a0 : Nat) : Mo h (GX1_undo h a0) := by
  unfold GX1_undo
  exact mo_gQ (fun x1_ => mo_gC (mo_bnd (moJ17_isEmpty h x1_) hle_rf (fun r2 u2 m2 => mo_ite (mo_bnx (moX1_requireState u2 (1 : Int32)) m2 (fun r11 u11 m11 => mo_gQ (fun x12_ => mo_gC (mo_bnd (moJ17_removeLast u11 x12_) m11 (fun r13 u13 m13 => mo_gC (mo_pV m13 (fun h15 m15 => mo_gQ (fun x16_ => mo_gC (mo_bnd (moJ17_size h15 x16_) m15 (fun r17 u17 m17 => mo_ret m17)))))))))) (mo_bnx (moX1_requireState u2 (0 : Int32)) m2 (fun r4 u4 m4 => mo_gQ (fun x5_ => mo_gC (mo_bnd (moJ17_removeLast u4 x5_) m4 (fun r6 u6 m6 => mo_gC (mo_pV m6 (fun h8 m8 => mo_gQ (fun x9_ => mo_gC (mo_bnd (moJ17_size h8 x9_) m8 (fun r10 u10 m10 => mo_ret m10)))))))))))))
set_option maxHeartbeats 4000000 in
set_option maxRecDepth 100000 in
theorem mgX1_undo (l : Launch) (hl0 : l.stackTraces = false) (D : HD) (A : Nat → Prop) (h : Hp) (a0 : Nat) (out : (Int32 ⊕ Xq) × Hp) (hF : GX1_undo h a0 = some out) (mc ms : Nat) (hmc : hCc out.2 = hCc h + mc) (hms : hSl out.2 = hSl h + ms) : vx_Met l yX1_undo (ws_ yX1_undo cX1_undo 1 (some .int)) ({ frames := 7, cells := mc, slots := ms, locals := 120 }) (va_Pc [.ref a0] (hW D A h)) (va_Qi (fun r u => ((.inl r : Int32 ⊕ Xq), u) = out) (hW D A) A) (xC D A out) mc ms A := by
  refine vx_ofW (cc := cX1_undo) (maxL := 1) (ret := (some .int)) (by decide +kernel) rfl ?_
  intro p e s m args below meth c s₁ B hml htb hv
  obtain ⟨rfl, hr, hGr⟩ := hv
  have hx := B.exec
  have hb := B.bytes
  have hret := B.returns
  have hts := atoms_spec (ws := (ws_ yX1_undo cX1_undo 1 (some .int))) B.pre
  have hts : ∀ w ∈ lw_all, w.before _ s = true := fun w h => hts w (List.mem_cons_of_mem _ h)
  have hown : s.vm.findClass RX1 = some m.cls := findClass_of_methodNamed B.named
  have hlocks := B.notSynchronized
  have hS : va_S A s.heap s.heap [] := va_S.rf
  have hc : cst h 0 0 h := cst_0
  have hl := lv_entry ([.ref a0]) (n := 1) (Nat.le_of_ble_eq_true rfl)
  rw [lg_entry_eq]
  generalize (lg_sl ([.ref a0]) ++ List.replicate (1 - (lg_sl ([.ref a0])).length) Slot.unset).toArray = ls at hl ⊢
  have hl : lv_has ls 1 [(0, .ref a0)] := hl
  unfold GX1_undo at hF
  refine lv_aload_n hx hb dX1_undo_0 rfl (lv_at hl 0 rfl) ?_
  obtain ⟨fs1, x1_, e1, f1, hF⟩ := gQ_s hF
  refine h_get (C := RX1) (T := TX1) (N := 7) hx hb hts in_X1 hown hGr hr e1 (by decide) rfl 1 (by decide) (hts _ q634) (fun _ h9 => h9) f1 dX1_undo_1 ?_
  obtain ⟨fc2, ec2, hF⟩ := gC_s hF
  obtain ⟨r2, u2, e2, hF⟩ := bnd_s hF
  have mm2 : hle u2 out.2 := (show Mo u2 _ from mo_ite (mo_bnx (moX1_requireState u2 (1 : Int32)) hle_rf (fun r11 u11 m11 => mo_gQ (fun x12_ => mo_gC (mo_bnd (moJ17_removeLast u11 x12_) m11 (fun r13 u13 m13 => mo_gC (mo_pV m13 (fun h15 m15 => mo_gQ (fun x16_ => mo_gC (mo_bnd (moJ17_size h15 x16_) m15 (fun r17 u17 m17 => mo_ret m17)))))))))) (mo_bnx (moX1_requireState u2 (0 : Int32)) hle_rf (fun r4 u4 m4 => mo_gQ (fun x5_ => mo_gC (mo_bnd (moJ17_removeLast u4 x5_) m4 (fun r6 u6 m6 => mo_gC (mo_pV m6 (fun h8 m8 => mo_gQ (fun x9_ => mo_gC (mo_bnd (moJ17_size h8 x9_) m8 (fun r10 u10 m10 => mo_ret m10))))))))))) _ hF
  obtain ⟨mc2, ms2, hmc2, hms2⟩ := up_of (moJ17_isEmpty h x1_ _ e2)
  replace hc := cst_call hc hmc2 hms2
  refine h_calli (va_runV (As := []) (rest := []) ⟨hx, hb, hml, hown, hts⟩ (mgJ17_isEmpty l D A h x1_ _ e2 mc2 ms2 hmc2 hms2) (cwV 0 hts (lw_V q1943 q1944 q1945 q124 q1946) rfl rfl rfl (by decide +kernel) ⟨Nat.le_of_ble_eq_true rfl, Nat.le_of_ble_eq_true rfl⟩) (h_preV hGr hr hS ec2 (by decide) (q := (RJ17, TJ17, 3)) rfl _) rfl rfl hl.1 rfl (lv_room (Nat.le_of_ble_eq_true rfl)) dX1_undo_4 ⟨(bud hc mm2 hmc hms).1, (bud hc mm2 hmc hms).2⟩) hS (fun rr uu H locs hw hr hS => ?_)
  obtain rfl : u2 = uu := (congrArg Prod.snd hw).symm
  obtain rfl : r2 = rr := (congrArg Prod.fst hw).symm
  refine lv_if_ne (tgt := 14) hx hb dX1_undo_7 (by decide) (fun c3 => ?_) (fun c3 => ?_)
  · replace hF := it_f c3 hF
    refine lv_iconst (v := 0) hx hb dX1_undo_14 (by decide) ?_
    rcases bnx_s hF with ⟨r4, u4, e4, hF⟩ | ⟨q4, u4, e4, hF⟩
    rotate_left
    · obtain ⟨mc4, ms4, hmc4, hms4⟩ := up_of (moX1_requireState u2 (0 : Int32) _ e4)
      have hcx := cst_call hc hmc4 hms4
      have bx4 := bud_r hcx hF hmc hms
      refine h_xthrv rfl (vx_runS (As := [.int 0]) (rest := []) ⟨hx, hb, hml, hown, hts⟩ (mgX1_requireState l hl0 D A u2 (0 : Int32) _ e4 mc4 ms4 hmc4 hms4) (va_cwS 1 hts (lw_S q1326 q1327 q101 q1328) rfl rfl rfl (by decide +kernel) ⟨Nat.le_of_ble_eq_true rfl, Nat.le_of_ble_eq_true rfl⟩) (h_preS hGr hr hS _) rfl rfl hl.1 rfl (lv_room (Nat.le_of_ble_eq_true rfl)) dX1_undo_15 ⟨bx4.1, bx4.2⟩) hS (fun E9 q9 u9 H locs ce9 e1 e2 e3 hr hS h1 h2 h3 => ?_)
      exact h_xpass hGr htb hlocks hF bx4 e1 e2 e3 hr hS h1 h2 h3
    have mm4 : hle u4 out.2 := (show Mo u4 _ from mo_gQ (fun x5_ => mo_gC (mo_bnd (moJ17_removeLast u4 x5_) hle_rf (fun r6 u6 m6 => mo_gC (mo_pV m6 (fun h8 m8 => mo_gQ (fun x9_ => mo_gC (mo_bnd (moJ17_size h8 x9_) m8 (fun r10 u10 m10 => mo_ret m10))))))))) _ hF
    obtain ⟨mc4, ms4, hmc4, hms4⟩ := up_of (moX1_requireState u2 (0 : Int32) _ e4)
    replace hc := cst_call hc hmc4 hms4
    refine h_xretv rfl (vx_runS (As := [.int 0]) (rest := []) ⟨hx, hb, hml, hown, hts⟩ (mgX1_requireState l hl0 D A u2 (0 : Int32) _ e4 mc4 ms4 hmc4 hms4) (va_cwS 1 hts (lw_S q1326 q1327 q101 q1328) rfl rfl rfl (by decide +kernel) ⟨Nat.le_of_ble_eq_true rfl, Nat.le_of_ble_eq_true rfl⟩) (h_preS hGr hr hS _) rfl rfl hl.1 rfl (lv_room (Nat.le_of_ble_eq_true rfl)) dX1_undo_15 ⟨(bud hc mm4 hmc hms).1, (bud hc mm4 hmc hms).2⟩) hS (fun H locs hr hS => ?_)
    refine lv_aload_n hx hb dX1_undo_18 rfl (lv_at hl 0 rfl) ?_
    refine lv_aload_n hx hb dX1_undo_19 rfl (lv_at hl 0 rfl) ?_
    obtain ⟨fs5, x5_, e5, f5, hF⟩ := gQ_s hF
    refine h_get (C := RX1) (T := TX1) (N := 7) hx hb hts in_X1 hown hGr hr e5 (by decide) rfl 1 (by decide) (hts _ q634) (fun _ h9 => h9) f5 dX1_undo_20 ?_
    obtain ⟨fc6, ec6, hF⟩ := gC_s hF
    obtain ⟨r6, u6, e6, hF⟩ := bnd_s hF
    have mm6 : hle u6 out.2 := (show Mo u6 _ from mo_gC (mo_pV hle_rf (fun h8 m8 => mo_gQ (fun x9_ => mo_gC (mo_bnd (moJ17_size h8 x9_) m8 (fun r10 u10 m10 => mo_ret m10)))))) _ hF
    obtain ⟨mc6, ms6, hmc6, hms6⟩ := up_of (moJ17_removeLast u4 x5_ _ e6)
    replace hc := cst_call hc hmc6 hms6
    refine h_callr (va_runV (As := []) (rest := [.ref a0]) ⟨hx, hb, hml, hown, hts⟩ (mgJ17_removeLast l D A u4 x5_ _ e6 mc6 ms6 hmc6 hms6) (cwV 0 hts (lw_V q1947 q1948 q1949 q124 q1950) rfl rfl rfl (by decide +kernel) ⟨Nat.le_of_ble_eq_true rfl, Nat.le_of_ble_eq_true rfl⟩) (h_preV hGr hr hS ec6 (by decide) (q := (RJ17, TJ17, 3)) rfl _) rfl rfl hl.1 rfl (lv_room (Nat.le_of_ble_eq_true rfl)) dX1_undo_23 ⟨(bud hc mm6 hmc hms).1, (bud hc mm6 hmc hms).2⟩) hS (fun rr uu H locs hw hr hS => ?_)
    obtain rfl : u6 = uu := (congrArg Prod.snd hw).symm
    obtain rfl : r6 = rr := (congrArg Prod.fst hw).symm
    obtain ⟨fs7, e7, hF⟩ := gC_s hF
    refine h_cast hx hb hown (hts _ q151) hGr hr e7 (by decide) (T := TX2) (N := 11) rfl dX1_undo_26 ?_
    obtain ⟨fs8, e8, k8, lo8, hF⟩ := pV_s hF
    obtain ⟨h8, eh8⟩ : ∃ z, z = hPut u6 a0 (.inr (1, fs8.set 0 (.ref r6))) := ⟨_, rfl⟩
    rw [← eh8] at hF
    refine h_put (C := RX1) (T := TX1) (N := 7) hx hb hts in_X1 tyX1 tyX1_ok nmX1 hown hGr hr hS e8 (by decide) rfl 0 (by decide) (hts _ q633) (fun _ h9 => h9) rfl (tyX1_ok 0 (by decide)) rfl rfl k8 lo8 dX1_undo_29 (fun H locs hr hS => ?_)
    rw [← eh8] at hr
    replace hc := cst_put hc eh8
    refine lv_aload_n hx hb dX1_undo_32 rfl (lv_at hl 0 rfl) ?_
    obtain ⟨fs9, x9_, e9, f9, hF⟩ := gQ_s hF
    refine h_get (C := RX1) (T := TX1) (N := 7) hx hb hts in_X1 hown hGr hr e9 (by decide) rfl 1 (by decide) (hts _ q634) (fun _ h9 => h9) f9 dX1_undo_33 ?_
    obtain ⟨fc10, ec10, hF⟩ := gC_s hF
    obtain ⟨r10, u10, e10, hF⟩ := bnd_s hF
    have mm10 : hle u10 out.2 := (show Mo u10 _ from mo_ret hle_rf) _ hF
    obtain ⟨mc10, ms10, hmc10, hms10⟩ := up_of (moJ17_size h8 x9_ _ e10)
    replace hc := cst_call hc hmc10 hms10
    refine h_calli (va_runV (As := []) (rest := []) ⟨hx, hb, hml, hown, hts⟩ (mgJ17_size l D A h8 x9_ _ e10 mc10 ms10 hmc10 hms10) (cwV 0 hts (lw_V q774 q775 q776 q124 q777) rfl rfl rfl (by decide +kernel) ⟨Nat.le_of_ble_eq_true rfl, Nat.le_of_ble_eq_true rfl⟩) (h_preV hGr hr hS ec10 (by decide) (q := (RJ17, TJ17, 3)) rfl _) rfl rfl hl.1 rfl (lv_room (Nat.le_of_ble_eq_true rfl)) dX1_undo_36 ⟨(bud hc mm10 hmc hms).1, (bud hc mm10 hmc hms).2⟩) hS (fun rr uu H locs hw hr hS => ?_)
    obtain rfl : u10 = uu := (congrArg Prod.snd hw).symm
    obtain rfl : r10 = rr := (congrArg Prod.fst hw).symm
    have bz := bud_r hc hF hmc hms
    refine vx_ret ?_
    refine W.widen (k := mc) (n := ms) bz.1 bz.2 ?_
    exact W.iret (v := r10) hx hb hret (fun t ht hWm => ⟨⟨r10, u10, rfl, Option.some.inj hF, h_end hGr hr hS ht hWm⟩, hS.F ht⟩) hS.2.2 dX1_undo_39
  · replace hF := it_t c3 hF
    refine lv_iconst (v := 1) hx hb dX1_undo_10 (by decide) ?_
    refine lv_goto (tgt := 15) hx hb dX1_undo_11 (by decide) ?_
    rcases bnx_s hF with ⟨r11, u11, e11, hF⟩ | ⟨q11, u11, e11, hF⟩
    rotate_left
    · obtain ⟨mc11, ms11, hmc11, hms11⟩ := up_of (moX1_requireState u2 (1 : Int32) _ e11)
      have hcx := cst_call hc hmc11 hms11
      have bx11 := bud_r hcx hF hmc hms
      refine h_xthrv rfl (vx_runS (As := [.int 1]) (rest := []) ⟨hx, hb, hml, hown, hts⟩ (mgX1_requireState l hl0 D A u2 (1 : Int32) _ e11 mc11 ms11 hmc11 hms11) (va_cwS 1 hts (lw_S q1326 q1327 q101 q1328) rfl rfl rfl (by decide +kernel) ⟨Nat.le_of_ble_eq_true rfl, Nat.le_of_ble_eq_true rfl⟩) (h_preS hGr hr hS _) rfl rfl hl.1 rfl (lv_room (Nat.le_of_ble_eq_true rfl)) dX1_undo_15 ⟨bx11.1, bx11.2⟩) hS (fun E9 q9 u9 H locs ce9 e1 e2 e3 hr hS h1 h2 h3 => ?_)
      exact h_xpass hGr htb hlocks hF bx11 e1 e2 e3 hr hS h1 h2 h3
    have mm11 : hle u11 out.2 := (show Mo u11 _ from mo_gQ (fun x12_ => mo_gC (mo_bnd (moJ17_removeLast u11 x12_) hle_rf (fun r13 u13 m13 => mo_gC (mo_pV m13 (fun h15 m15 => mo_gQ (fun x16_ => mo_gC (mo_bnd (moJ17_size h15 x16_) m15 (fun r17 u17 m17 => mo_ret m17))))))))) _ hF
    obtain ⟨mc11, ms11, hmc11, hms11⟩ := up_of (moX1_requireState u2 (1 : Int32) _ e11)
    replace hc := cst_call hc hmc11 hms11
    refine h_xretv rfl (vx_runS (As := [.int 1]) (rest := []) ⟨hx, hb, hml, hown, hts⟩ (mgX1_requireState l hl0 D A u2 (1 : Int32) _ e11 mc11 ms11 hmc11 hms11) (va_cwS 1 hts (lw_S q1326 q1327 q101 q1328) rfl rfl rfl (by decide +kernel) ⟨Nat.le_of_ble_eq_true rfl, Nat.le_of_ble_eq_true rfl⟩) (h_preS hGr hr hS _) rfl rfl hl.1 rfl (lv_room (Nat.le_of_ble_eq_true rfl)) dX1_undo_15 ⟨(bud hc mm11 hmc hms).1, (bud hc mm11 hmc hms).2⟩) hS (fun H locs hr hS => ?_)
    refine lv_aload_n hx hb dX1_undo_18 rfl (lv_at hl 0 rfl) ?_
    refine lv_aload_n hx hb dX1_undo_19 rfl (lv_at hl 0 rfl) ?_
    obtain ⟨fs12, x12_, e12, f12, hF⟩ := gQ_s hF
    refine h_get (C := RX1) (T := TX1) (N := 7) hx hb hts in_X1 hown hGr hr e12 (by decide) rfl 1 (by decide) (hts _ q634) (fun _ h9 => h9) f12 dX1_undo_20 ?_
    obtain ⟨fc13, ec13, hF⟩ := gC_s hF
    obtain ⟨r13, u13, e13, hF⟩ := bnd_s hF
    have mm13 : hle u13 out.2 := (show Mo u13 _ from mo_gC (mo_pV hle_rf (fun h15 m15 => mo_gQ (fun x16_ => mo_gC (mo_bnd (moJ17_size h15 x16_) m15 (fun r17 u17 m17 => mo_ret m17)))))) _ hF
    obtain ⟨mc13, ms13, hmc13, hms13⟩ := up_of (moJ17_removeLast u11 x12_ _ e13)
    replace hc := cst_call hc hmc13 hms13
    refine h_callr (va_runV (As := []) (rest := [.ref a0]) ⟨hx, hb, hml, hown, hts⟩ (mgJ17_removeLast l D A u11 x12_ _ e13 mc13 ms13 hmc13 hms13) (cwV 0 hts (lw_V q1947 q1948 q1949 q124 q1950) rfl rfl rfl (by decide +kernel) ⟨Nat.le_of_ble_eq_true rfl, Nat.le_of_ble_eq_true rfl⟩) (h_preV hGr hr hS ec13 (by decide) (q := (RJ17, TJ17, 3)) rfl _) rfl rfl hl.1 rfl (lv_room (Nat.le_of_ble_eq_true rfl)) dX1_undo_23 ⟨(bud hc mm13 hmc hms).1, (bud hc mm13 hmc hms).2⟩) hS (fun rr uu H locs hw hr hS => ?_)
    obtain rfl : u13 = uu := (congrArg Prod.snd hw).symm
    obtain rfl : r13 = rr := (congrArg Prod.fst hw).symm
    obtain ⟨fs14, e14, hF⟩ := gC_s hF
    refine h_cast hx hb hown (hts _ q151) hGr hr e14 (by decide) (T := TX2) (N := 11) rfl dX1_undo_26 ?_
    obtain ⟨fs15, e15, k15, lo15, hF⟩ := pV_s hF
    obtain ⟨h15, eh15⟩ : ∃ z, z = hPut u13 a0 (.inr (1, fs15.set 0 (.ref r13))) := ⟨_, rfl⟩
    rw [← eh15] at hF
    refine h_put (C := RX1) (T := TX1) (N := 7) hx hb hts in_X1 tyX1 tyX1_ok nmX1 hown hGr hr hS e15 (by decide) rfl 0 (by decide) (hts _ q633) (fun _ h9 => h9) rfl (tyX1_ok 0 (by decide)) rfl rfl k15 lo15 dX1_undo_29 (fun H locs hr hS => ?_)
    rw [← eh15] at hr
    replace hc := cst_put hc eh15
    refine lv_aload_n hx hb dX1_undo_32 rfl (lv_at hl 0 rfl) ?_
    obtain ⟨fs16, x16_, e16, f16, hF⟩ := gQ_s hF
    refine h_get (C := RX1) (T := TX1) (N := 7) hx hb hts in_X1 hown hGr hr e16 (by decide) rfl 1 (by decide) (hts _ q634) (fun _ h9 => h9) f16 dX1_undo_33 ?_
    obtain ⟨fc17, ec17, hF⟩ := gC_s hF
    obtain ⟨r17, u17, e17, hF⟩ := bnd_s hF
    have mm17 : hle u17 out.2 := (show Mo u17 _ from mo_ret hle_rf) _ hF
    obtain ⟨mc17, ms17, hmc17, hms17⟩ := up_of (moJ17_size h15 x16_ _ e17)
    replace hc := cst_call hc hmc17 hms17
    refine h_calli (va_runV (As := []) (rest := []) ⟨hx, hb, hml, hown, hts⟩ (mgJ17_size l D A h15 x16_ _ e17 mc17 ms17 hmc17 hms17) (cwV 0 hts (lw_V q774 q775 q776 q124 q777) rfl rfl rfl (by decide +kernel) ⟨Nat.le_of_ble_eq_true rfl, Nat.le_of_ble_eq_true rfl⟩) (h_preV hGr hr hS ec17 (by decide) (q := (RJ17, TJ17, 3)) rfl _) rfl rfl hl.1 rfl (lv_room (Nat.le_of_ble_eq_true rfl)) dX1_undo_36 ⟨(bud hc mm17 hmc hms).1, (bud hc mm17 hmc hms).2⟩) hS (fun rr uu H locs hw hr hS => ?_)
    obtain rfl : u17 = uu := (congrArg Prod.snd hw).symm
    obtain rfl : r17 = rr := (congrArg Prod.fst hw).symm
    have bz := bud_r hc hF hmc hms
    refine vx_ret ?_
    refine W.widen (k := mc) (n := ms) bz.1 bz.2 ?_
    exact W.iret (v := r17) hx hb hret (fun t ht hWm => ⟨⟨r17, u17, rfl, Option.some.inj hF, h_end hGr hr hS ht hWm⟩, hS.F ht⟩) hS.2.2 dX1_undo_39

def GX1_save (h : Hp) (a0 : Nat) (p1 : Int32) : Option ((Int32 ⊕ Xq) × Hp) := bnx (GX1_requireIndex h p1 (2 : Int32)) (fun r1 u1 => gQ u1 a0 1 2 (fun x2_ => gQ u1 a0 1 0 (fun x3_ => gC u1 x3_ 2 (bnd (GX2_copy u1 x3_) (fun r4 u4 => sQ u4 x2_ 3 p1 r4 (fun h5 => gQ h5 a0 1 0 (fun x6_ => gQ h5 x6_ 2 7 (fun x7_ => gC h5 x7_ 10 (bnd (GJ2_size h5 x7_) (fun r8 u8 => some (.inl r8, u8)))))))))))
theorem moX1_save (h : Hp) (a0 : Nat) (p1 : Int32) : Mo h (GX1_save h a0 p1) := by
  unfold GX1_save
  exact mo_bnx (moX1_requireIndex h p1 (2 : Int32)) hle_rf (fun r1 u1 m1 => mo_gQ (fun x2_ => mo_gQ (fun x3_ => mo_gC (mo_bnd (moX2_copy u1 x3_) m1 (fun r4 u4 m4 => mo_sQ m4 (fun h5 m5 => mo_gQ (fun x6_ => mo_gQ (fun x7_ => mo_gC (mo_bnd (moJ2_size h5 x7_) m5 (fun r8 u8 m8 => mo_ret m8))))))))))
set_option maxHeartbeats 4000000 in
set_option maxRecDepth 100000 in
theorem mgX1_save (l : Launch) (hl0 : l.stackTraces = false) (D : HD) (A : Nat → Prop) (h : Hp) (a0 : Nat) (p1 : Int32) (out : (Int32 ⊕ Xq) × Hp) (hF : GX1_save h a0 p1 = some out) (mc ms : Nat) (hmc : hCc out.2 = hCc h + mc) (hms : hSl out.2 = hSl h + ms) : vx_Met l yX1_save (ws_ yX1_save cX1_save 2 (some .int)) ({ frames := 7, cells := mc, slots := ms, locals := 193 }) (va_Pc [.ref a0, .int p1] (hW D A h)) (va_Qi (fun r u => ((.inl r : Int32 ⊕ Xq), u) = out) (hW D A) A) (xC D A out) mc ms A := by
  refine vx_ofW (cc := cX1_save) (maxL := 2) (ret := (some .int)) (by decide +kernel) rfl ?_
  intro p e s m args below meth c s₁ B hml htb hv
  obtain ⟨rfl, hr, hGr⟩ := hv
  have hx := B.exec
  have hb := B.bytes
  have hret := B.returns
  have hts := atoms_spec (ws := (ws_ yX1_save cX1_save 2 (some .int))) B.pre
  have hts : ∀ w ∈ lw_all, w.before _ s = true := fun w h => hts w (List.mem_cons_of_mem _ h)
  have hown : s.vm.findClass RX1 = some m.cls := findClass_of_methodNamed B.named
  have hlocks := B.notSynchronized
  have hS : va_S A s.heap s.heap [] := va_S.rf
  have hc : cst h 0 0 h := cst_0
  have hl := lv_entry ([.ref a0, .int p1]) (n := 2) (Nat.le_of_ble_eq_true rfl)
  rw [lg_entry_eq]
  generalize (lg_sl ([.ref a0, .int p1]) ++ List.replicate (2 - (lg_sl ([.ref a0, .int p1])).length) Slot.unset).toArray = ls at hl ⊢
  have hl : lv_has ls 2 [(0, .ref a0), (1, .int p1)] := hl
  unfold GX1_save at hF
  refine lv_iload_n hx hb dX1_save_0 rfl (lv_at hl 1 rfl) ?_
  refine lv_iconst (v := 2) hx hb dX1_save_1 (by decide) ?_
  rcases bnx_s hF with ⟨r1, u1, e1, hF⟩ | ⟨q1, u1, e1, hF⟩
  rotate_left
  · obtain ⟨mc1, ms1, hmc1, hms1⟩ := up_of (moX1_requireIndex h p1 (2 : Int32) _ e1)
    have hcx := cst_call hc hmc1 hms1
    have bx1 := bud_r hcx hF hmc hms
    refine h_xthrv rfl (vx_runS (As := [.int p1, .int 2]) (rest := []) ⟨hx, hb, hml, hown, hts⟩ (mgX1_requireIndex l hl0 D A h p1 (2 : Int32) _ e1 mc1 ms1 hmc1 hms1) (va_cwS 2 hts (lw_S q1693 q1694 q101 q1695) rfl rfl rfl (by decide +kernel) ⟨Nat.le_of_ble_eq_true rfl, Nat.le_of_ble_eq_true rfl⟩) (h_preS hGr hr hS _) rfl rfl hl.1 rfl (lv_room (Nat.le_of_ble_eq_true rfl)) dX1_save_2 ⟨bx1.1, bx1.2⟩) hS (fun E9 q9 u9 H locs ce9 e1 e2 e3 hr hS h1 h2 h3 => ?_)
    exact h_xpass hGr htb hlocks hF bx1 e1 e2 e3 hr hS h1 h2 h3
  have mm1 : hle u1 out.2 := (show Mo u1 _ from mo_gQ (fun x2_ => mo_gQ (fun x3_ => mo_gC (mo_bnd (moX2_copy u1 x3_) hle_rf (fun r4 u4 m4 => mo_sQ m4 (fun h5 m5 => mo_gQ (fun x6_ => mo_gQ (fun x7_ => mo_gC (mo_bnd (moJ2_size h5 x7_) m5 (fun r8 u8 m8 => mo_ret m8)))))))))) _ hF
  obtain ⟨mc1, ms1, hmc1, hms1⟩ := up_of (moX1_requireIndex h p1 (2 : Int32) _ e1)
  replace hc := cst_call hc hmc1 hms1
  refine h_xretv rfl (vx_runS (As := [.int p1, .int 2]) (rest := []) ⟨hx, hb, hml, hown, hts⟩ (mgX1_requireIndex l hl0 D A h p1 (2 : Int32) _ e1 mc1 ms1 hmc1 hms1) (va_cwS 2 hts (lw_S q1693 q1694 q101 q1695) rfl rfl rfl (by decide +kernel) ⟨Nat.le_of_ble_eq_true rfl, Nat.le_of_ble_eq_true rfl⟩) (h_preS hGr hr hS _) rfl rfl hl.1 rfl (lv_room (Nat.le_of_ble_eq_true rfl)) dX1_save_2 ⟨(bud hc mm1 hmc hms).1, (bud hc mm1 hmc hms).2⟩) hS (fun H locs hr hS => ?_)
  refine lv_aload_n hx hb dX1_save_5 rfl (lv_at hl 0 rfl) ?_
  obtain ⟨fs2, x2_, e2, f2, hF⟩ := gQ_s hF
  refine h_get (C := RX1) (T := TX1) (N := 7) hx hb hts in_X1 hown hGr hr e2 (by decide) rfl 2 (by decide) (hts _ q635) (fun _ h9 => h9) f2 dX1_save_6 ?_
  refine lv_iload_n hx hb dX1_save_9 rfl (lv_at hl 1 rfl) ?_
  refine lv_aload_n hx hb dX1_save_10 rfl (lv_at hl 0 rfl) ?_
  obtain ⟨fs3, x3_, e3, f3, hF⟩ := gQ_s hF
  refine h_get (C := RX1) (T := TX1) (N := 7) hx hb hts in_X1 hown hGr hr e3 (by decide) rfl 0 (by decide) (hts _ q633) (fun _ h9 => h9) f3 dX1_save_11 ?_
  obtain ⟨fc4, ec4, hF⟩ := gC_s hF
  obtain ⟨r4, u4, e4, hF⟩ := bnd_s hF
  have mm4 : hle u4 out.2 := (show Mo u4 _ from mo_sQ hle_rf (fun h5 m5 => mo_gQ (fun x6_ => mo_gQ (fun x7_ => mo_gC (mo_bnd (moJ2_size h5 x7_) m5 (fun r8 u8 m8 => mo_ret m8)))))) _ hF
  obtain ⟨mc4, ms4, hmc4, hms4⟩ := up_of (moX2_copy u1 x3_ _ e4)
  replace hc := cst_call hc hmc4 hms4
  refine h_callr (va_runV (As := []) (rest := [.int p1, .ref x2_]) ⟨hx, hb, hml, hown, hts⟩ (mgX2_copy l D A u1 x3_ _ e4 mc4 ms4 hmc4 hms4) (cwV 0 hts (lw_V q851 q675 q676 q102 q677) rfl rfl rfl (by decide +kernel) ⟨Nat.le_of_ble_eq_true rfl, Nat.le_of_ble_eq_true rfl⟩) (h_preV hGr hr hS ec4 (by decide) (q := (RX2, TX2, 11)) rfl _) rfl rfl hl.1 rfl (lv_room (Nat.le_of_ble_eq_true rfl)) dX1_save_14 ⟨(bud hc mm4 hmc hms).1, (bud hc mm4 hmc hms).2⟩) hS (fun rr uu H locs hw hr hS => ?_)
  obtain rfl : u4 = uu := (congrArg Prod.snd hw).symm
  obtain rfl : r4 = rr := (congrArg Prod.fst hw).symm
  obtain ⟨n5, f5, cv5, fv5, e5, ev5, lo5, ok5, kd5, g5, hF⟩ := sQ_s hF
  obtain ⟨h5, eh5⟩ : ∃ z, z = hPut u4 x2_ (.inl (3, n5, .inr (.inr (.inr (.inr (va_up f5 (p1).toNatClampNeg (some r4))))))) := ⟨_, rfl⟩
  rw [← eh5] at hF
  refine h_aastQ hx hb hGr hr hS e5 ev5 lo5 ok5 kd5 g5 dX1_save_17 (fun H locs hr hS => ?_)
  rw [← eh5] at hr
  replace hc := cst_put hc eh5
  refine lv_aload_n hx hb dX1_save_18 rfl (lv_at hl 0 rfl) ?_
  obtain ⟨fs6, x6_, e6, f6, hF⟩ := gQ_s hF
  refine h_get (C := RX1) (T := TX1) (N := 7) hx hb hts in_X1 hown hGr hr e6 (by decide) rfl 0 (by decide) (hts _ q633) (fun _ h9 => h9) f6 dX1_save_19 ?_
  obtain ⟨fs7, x7_, e7, f7, hF⟩ := gQ_s hF
  refine h_getN (C := RX2) (T := TX2) (N := 11) hx hb hts in_X2 hown hGr hr e7 (by decide) rfl 7 (by decide) (va_Nw.use rfl (hGr.nw q583 rfl)) (fun _ h9 => h9) f7 dX1_save_22 ?_
  obtain ⟨fc8, ec8, hF⟩ := gC_s hF
  obtain ⟨r8, u8, e8, hF⟩ := bnd_s hF
  have mm8 : hle u8 out.2 := (show Mo u8 _ from mo_ret hle_rf) _ hF
  obtain ⟨mc8, ms8, hmc8, hms8⟩ := up_of (moJ2_size h5 x7_ _ e8)
  replace hc := cst_call hc hmc8 hms8
  refine h_callFi (va_runF (hGr.K.1 10 _ rfl).2 (As := []) (rest := []) ⟨hx, hb, hml, hown, hts⟩ (mgJ2_size l D A h5 x7_ _ e8 mc8 ms8 hmc8 hms8) (va_cwF 0 hts (lw_app (lw_fi q1068 q875 q877 q106) (lw_meth q879)) rfl rfl rfl (fw_5 hGr) (by decide +kernel) ⟨Nat.le_of_ble_eq_true rfl, Nat.le_of_ble_eq_true rfl⟩) (h_preV hGr hr hS ec8 (by decide) (q := (RJ2, TJ2, 3)) rfl _) rfl rfl hl.1 rfl (lv_room (Nat.le_of_ble_eq_true rfl)) dX1_save_25 ⟨(bud hc mm8 hmc hms).1, (bud hc mm8 hmc hms).2⟩) hS (fun rr uu H locs hw hr hS => ?_)
  obtain rfl : u8 = uu := (congrArg Prod.snd hw).symm
  obtain rfl : r8 = rr := (congrArg Prod.fst hw).symm
  have bz := bud_r hc hF hmc hms
  refine vx_ret ?_
  refine W.widen (k := mc) (n := ms) bz.1 bz.2 ?_
  exact W.iret (v := r8) hx hb hret (fun t ht hWm => ⟨⟨r8, u8, rfl, Option.some.inj hF, h_end hGr hr hS ht hWm⟩, hS.F ht⟩) hS.2.2 dX1_save_30

def GX1_restore (h : Hp) (a0 : Nat) (p1 : Int32) : Option ((Int32 ⊕ Xq) × Hp) := bnx (GX1_requireIndex h p1 (2 : Int32)) (fun r1 u1 => gQ u1 a0 1 2 (fun x2_ => aO u1 x2_ 3 p1 (fun x3_ => oN x3_ (bnx (GX1_requireState u1 (0 : Int32)) (fun r5 u5 => gQ u5 a0 1 2 (fun x6_ => aQ u5 x6_ 3 p1 (fun x7_ => gC u5 x7_ 2 (bnd (GX2_copy u5 x7_) (fun r8 u8 => gC u8 a0 1 (bnd (GX1_become u8 a0 r8) (fun r9 u9 => gQ u9 a0 1 0 (fun x10_ => gQ u9 x10_ 2 7 (fun x11_ => gC u9 x11_ 10 (bnd (GJ2_size u9 x11_) (fun r12 u12 => some (.inl r12, u12))))))))))))) (fun b4 => bnx (GX1_requireState u1 (1 : Int32)) (fun r13 u13 => gQ u13 a0 1 2 (fun x14_ => aQ u13 x14_ 3 p1 (fun x15_ => gC u13 x15_ 2 (bnd (GX2_copy u13 x15_) (fun r16 u16 => gC u16 a0 1 (bnd (GX1_become u16 a0 r16) (fun r17 u17 => gQ u17 a0 1 0 (fun x18_ => gQ u17 x18_ 2 7 (fun x19_ => gC u17 x19_ 10 (bnd (GJ2_size u17 x19_) (fun r20 u20 => some (.inl r20, u20))))))))))))))))
theorem moX1_restore (h : Hp) (a0 : Nat) (p1 : Int32) : Mo h (GX1_restore h a0 p1) := by
  unfold GX1_restore
  exact mo_bnx (moX1_requireIndex h p1 (2 : Int32)) hle_rf (fun r1 u1 m1 => mo_gQ (fun x2_ => mo_aO (fun x3_ => mo_oN (mo_bnx (moX1_requireState u1 (0 : Int32)) m1 (fun r5 u5 m5 => mo_gQ (fun x6_ => mo_aQ (fun x7_ => mo_gC (mo_bnd (moX2_copy u5 x7_) m5 (fun r8 u8 m8 => mo_gC (mo_bnd (moX1_become u8 a0 r8) m8 (fun r9 u9 m9 => mo_gQ (fun x10_ => mo_gQ (fun x11_ => mo_gC (mo_bnd (moJ2_size u9 x11_) m9 (fun r12 u12 m12 => mo_ret m12)))))))))))) (fun b4 => mo_bnx (moX1_requireState u1 (1 : Int32)) m1 (fun r13 u13 m13 => mo_gQ (fun x14_ => mo_aQ (fun x15_ => mo_gC (mo_bnd (moX2_copy u13 x15_) m13 (fun r16 u16 m16 => mo_gC (mo_bnd (moX1_become u16 a0 r16) m16 (fun r17 u17 m17 => mo_gQ (fun x18_ => mo_gQ (fun x19_ => mo_gC (mo_bnd (moJ2_size u17 x19_) m17 (fun r20 u20 m20 => mo_ret m20)))))))))))))))
set_option maxHeartbeats 4000000 in
set_option maxRecDepth 100000 in
theorem mgX1_restore (l : Launch) (hl0 : l.stackTraces = false) (D : HD) (A : Nat → Prop) (h : Hp) (a0 : Nat) (p1 : Int32) (out : (Int32 ⊕ Xq) × Hp) (hF : GX1_restore h a0 p1 = some out) (mc ms : Nat) (hmc : hCc out.2 = hCc h + mc) (hms : hSl out.2 = hSl h + ms) : vx_Met l yX1_restore (ws_ yX1_restore cX1_restore 2 (some .int)) ({ frames := 7, cells := mc, slots := ms, locals := 193 }) (va_Pc [.ref a0, .int p1] (hW D A h)) (va_Qi (fun r u => ((.inl r : Int32 ⊕ Xq), u) = out) (hW D A) A) (xC D A out) mc ms A := by
  refine vx_ofW (cc := cX1_restore) (maxL := 2) (ret := (some .int)) (by decide +kernel) rfl ?_
  intro p e s m args below meth c s₁ B hml htb hv
  obtain ⟨rfl, hr, hGr⟩ := hv
  have hx := B.exec
  have hb := B.bytes
  have hret := B.returns
  have hts := atoms_spec (ws := (ws_ yX1_restore cX1_restore 2 (some .int))) B.pre
  have hts : ∀ w ∈ lw_all, w.before _ s = true := fun w h => hts w (List.mem_cons_of_mem _ h)
  have hown : s.vm.findClass RX1 = some m.cls := findClass_of_methodNamed B.named
  have hlocks := B.notSynchronized
  have hS : va_S A s.heap s.heap [] := va_S.rf
  have hc : cst h 0 0 h := cst_0
  have hl := lv_entry ([.ref a0, .int p1]) (n := 2) (Nat.le_of_ble_eq_true rfl)
  rw [lg_entry_eq]
  generalize (lg_sl ([.ref a0, .int p1]) ++ List.replicate (2 - (lg_sl ([.ref a0, .int p1])).length) Slot.unset).toArray = ls at hl ⊢
  have hl : lv_has ls 2 [(0, .ref a0), (1, .int p1)] := hl
  unfold GX1_restore at hF
  refine lv_iload_n hx hb dX1_restore_0 rfl (lv_at hl 1 rfl) ?_
  refine lv_iconst (v := 2) hx hb dX1_restore_1 (by decide) ?_
  rcases bnx_s hF with ⟨r1, u1, e1, hF⟩ | ⟨q1, u1, e1, hF⟩
  rotate_left
  · obtain ⟨mc1, ms1, hmc1, hms1⟩ := up_of (moX1_requireIndex h p1 (2 : Int32) _ e1)
    have hcx := cst_call hc hmc1 hms1
    have bx1 := bud_r hcx hF hmc hms
    refine h_xthrv rfl (vx_runS (As := [.int p1, .int 2]) (rest := []) ⟨hx, hb, hml, hown, hts⟩ (mgX1_requireIndex l hl0 D A h p1 (2 : Int32) _ e1 mc1 ms1 hmc1 hms1) (va_cwS 2 hts (lw_S q1693 q1694 q101 q1695) rfl rfl rfl (by decide +kernel) ⟨Nat.le_of_ble_eq_true rfl, Nat.le_of_ble_eq_true rfl⟩) (h_preS hGr hr hS _) rfl rfl hl.1 rfl (lv_room (Nat.le_of_ble_eq_true rfl)) dX1_restore_2 ⟨bx1.1, bx1.2⟩) hS (fun E9 q9 u9 H locs ce9 e1 e2 e3 hr hS h1 h2 h3 => ?_)
    exact h_xpass hGr htb hlocks hF bx1 e1 e2 e3 hr hS h1 h2 h3
  have mm1 : hle u1 out.2 := (show Mo u1 _ from mo_gQ (fun x2_ => mo_aO (fun x3_ => mo_oN (mo_bnx (moX1_requireState u1 (0 : Int32)) hle_rf (fun r5 u5 m5 => mo_gQ (fun x6_ => mo_aQ (fun x7_ => mo_gC (mo_bnd (moX2_copy u5 x7_) m5 (fun r8 u8 m8 => mo_gC (mo_bnd (moX1_become u8 a0 r8) m8 (fun r9 u9 m9 => mo_gQ (fun x10_ => mo_gQ (fun x11_ => mo_gC (mo_bnd (moJ2_size u9 x11_) m9 (fun r12 u12 m12 => mo_ret m12)))))))))))) (fun b4 => mo_bnx (moX1_requireState u1 (1 : Int32)) hle_rf (fun r13 u13 m13 => mo_gQ (fun x14_ => mo_aQ (fun x15_ => mo_gC (mo_bnd (moX2_copy u13 x15_) m13 (fun r16 u16 m16 => mo_gC (mo_bnd (moX1_become u16 a0 r16) m16 (fun r17 u17 m17 => mo_gQ (fun x18_ => mo_gQ (fun x19_ => mo_gC (mo_bnd (moJ2_size u17 x19_) m17 (fun r20 u20 m20 => mo_ret m20))))))))))))))) _ hF
  obtain ⟨mc1, ms1, hmc1, hms1⟩ := up_of (moX1_requireIndex h p1 (2 : Int32) _ e1)
  replace hc := cst_call hc hmc1 hms1
  refine h_xretv rfl (vx_runS (As := [.int p1, .int 2]) (rest := []) ⟨hx, hb, hml, hown, hts⟩ (mgX1_requireIndex l hl0 D A h p1 (2 : Int32) _ e1 mc1 ms1 hmc1 hms1) (va_cwS 2 hts (lw_S q1693 q1694 q101 q1695) rfl rfl rfl (by decide +kernel) ⟨Nat.le_of_ble_eq_true rfl, Nat.le_of_ble_eq_true rfl⟩) (h_preS hGr hr hS _) rfl rfl hl.1 rfl (lv_room (Nat.le_of_ble_eq_true rfl)) dX1_restore_2 ⟨(bud hc mm1 hmc hms).1, (bud hc mm1 hmc hms).2⟩) hS (fun H locs hr hS => ?_)
  refine lv_aload_n hx hb dX1_restore_5 rfl (lv_at hl 0 rfl) ?_
  obtain ⟨fs2, x2_, e2, f2, hF⟩ := gQ_s hF
  refine h_get (C := RX1) (T := TX1) (N := 7) hx hb hts in_X1 hown hGr hr e2 (by decide) rfl 2 (by decide) (hts _ q635) (fun _ h9 => h9) f2 dX1_restore_6 ?_
  refine lv_iload_n hx hb dX1_restore_9 rfl (lv_at hl 1 rfl) ?_
  obtain ⟨n3, f3, e3, g3, hF⟩ := aO_s hF
  obtain ⟨x3_, ex3⟩ : ∃ z, z = f3 (p1).toNatClampNeg := ⟨_, rfl⟩
  rw [← ex3] at hF
  refine h_aald hx hb hGr hr (by decide) e3 g3 dX1_restore_10 (v := va_rf x3_) (by rw [ex3]) ?_
  rcases oN_s hF with ⟨rfl, hFn⟩ | ⟨b4, rfl, hFn⟩
  · replace hF := hFn
    refine lv_ifnullN (tgt := 18) hx hb dX1_restore_11 (by decide) ?_
    refine lv_iconst (v := 0) hx hb dX1_restore_18 (by decide) ?_
    rcases bnx_s hF with ⟨r5, u5, e5, hF⟩ | ⟨q5, u5, e5, hF⟩
    rotate_left
    · obtain ⟨mc5, ms5, hmc5, hms5⟩ := up_of (moX1_requireState u1 (0 : Int32) _ e5)
      have hcx := cst_call hc hmc5 hms5
      have bx5 := bud_r hcx hF hmc hms
      refine h_xthrv rfl (vx_runS (As := [.int 0]) (rest := []) ⟨hx, hb, hml, hown, hts⟩ (mgX1_requireState l hl0 D A u1 (0 : Int32) _ e5 mc5 ms5 hmc5 hms5) (va_cwS 1 hts (lw_S q1326 q1327 q101 q1328) rfl rfl rfl (by decide +kernel) ⟨Nat.le_of_ble_eq_true rfl, Nat.le_of_ble_eq_true rfl⟩) (h_preS hGr hr hS _) rfl rfl hl.1 rfl (lv_room (Nat.le_of_ble_eq_true rfl)) dX1_restore_19 ⟨bx5.1, bx5.2⟩) hS (fun E9 q9 u9 H locs ce9 e1 e2 e3 hr hS h1 h2 h3 => ?_)
      exact h_xpass hGr htb hlocks hF bx5 e1 e2 e3 hr hS h1 h2 h3
    have mm5 : hle u5 out.2 := (show Mo u5 _ from mo_gQ (fun x6_ => mo_aQ (fun x7_ => mo_gC (mo_bnd (moX2_copy u5 x7_) hle_rf (fun r8 u8 m8 => mo_gC (mo_bnd (moX1_become u8 a0 r8) m8 (fun r9 u9 m9 => mo_gQ (fun x10_ => mo_gQ (fun x11_ => mo_gC (mo_bnd (moJ2_size u9 x11_) m9 (fun r12 u12 m12 => mo_ret m12))))))))))) _ hF
    obtain ⟨mc5, ms5, hmc5, hms5⟩ := up_of (moX1_requireState u1 (0 : Int32) _ e5)
    replace hc := cst_call hc hmc5 hms5
    refine h_xretv rfl (vx_runS (As := [.int 0]) (rest := []) ⟨hx, hb, hml, hown, hts⟩ (mgX1_requireState l hl0 D A u1 (0 : Int32) _ e5 mc5 ms5 hmc5 hms5) (va_cwS 1 hts (lw_S q1326 q1327 q101 q1328) rfl rfl rfl (by decide +kernel) ⟨Nat.le_of_ble_eq_true rfl, Nat.le_of_ble_eq_true rfl⟩) (h_preS hGr hr hS _) rfl rfl hl.1 rfl (lv_room (Nat.le_of_ble_eq_true rfl)) dX1_restore_19 ⟨(bud hc mm5 hmc hms).1, (bud hc mm5 hmc hms).2⟩) hS (fun H locs hr hS => ?_)
    refine lv_aload_n hx hb dX1_restore_22 rfl (lv_at hl 0 rfl) ?_
    refine lv_aload_n hx hb dX1_restore_23 rfl (lv_at hl 0 rfl) ?_
    obtain ⟨fs6, x6_, e6, f6, hF⟩ := gQ_s hF
    refine h_get (C := RX1) (T := TX1) (N := 7) hx hb hts in_X1 hown hGr hr e6 (by decide) rfl 2 (by decide) (hts _ q635) (fun _ h9 => h9) f6 dX1_restore_24 ?_
    refine lv_iload_n hx hb dX1_restore_27 rfl (lv_at hl 1 rfl) ?_
    obtain ⟨n7, f7, x7_, e7, g7, ex7, hF⟩ := aQ_s hF
    refine h_aald hx hb hGr hr (by decide) e7 g7 dX1_restore_28 (v := .ref x7_) (by rw [ex7]; rfl) ?_
    obtain ⟨fc8, ec8, hF⟩ := gC_s hF
    obtain ⟨r8, u8, e8, hF⟩ := bnd_s hF
    have mm8 : hle u8 out.2 := (show Mo u8 _ from mo_gC (mo_bnd (moX1_become u8 a0 r8) hle_rf (fun r9 u9 m9 => mo_gQ (fun x10_ => mo_gQ (fun x11_ => mo_gC (mo_bnd (moJ2_size u9 x11_) m9 (fun r12 u12 m12 => mo_ret m12))))))) _ hF
    obtain ⟨mc8, ms8, hmc8, hms8⟩ := up_of (moX2_copy u5 x7_ _ e8)
    replace hc := cst_call hc hmc8 hms8
    refine h_callr (va_runV (As := []) (rest := [.ref a0]) ⟨hx, hb, hml, hown, hts⟩ (mgX2_copy l D A u5 x7_ _ e8 mc8 ms8 hmc8 hms8) (cwV 0 hts (lw_V q851 q675 q676 q102 q677) rfl rfl rfl (by decide +kernel) ⟨Nat.le_of_ble_eq_true rfl, Nat.le_of_ble_eq_true rfl⟩) (h_preV hGr hr hS ec8 (by decide) (q := (RX2, TX2, 11)) rfl _) rfl rfl hl.1 rfl (lv_room (Nat.le_of_ble_eq_true rfl)) dX1_restore_29 ⟨(bud hc mm8 hmc hms).1, (bud hc mm8 hmc hms).2⟩) hS (fun rr uu H locs hw hr hS => ?_)
    obtain rfl : u8 = uu := (congrArg Prod.snd hw).symm
    obtain rfl : r8 = rr := (congrArg Prod.fst hw).symm
    obtain ⟨fc9, ec9, hF⟩ := gC_s hF
    obtain ⟨r9, u9, e9, hF⟩ := bnd_s hF
    have mm9 : hle u9 out.2 := (show Mo u9 _ from mo_gQ (fun x10_ => mo_gQ (fun x11_ => mo_gC (mo_bnd (moJ2_size u9 x11_) hle_rf (fun r12 u12 m12 => mo_ret m12))))) _ hF
    obtain ⟨mc9, ms9, hmc9, hms9⟩ := up_of (moX1_become u8 a0 r8 _ e9)
    replace hc := cst_call hc hmc9 hms9
    refine h_callv (va_runV (As := [.ref r8]) (rest := []) ⟨hx, hb, hml, hown, hts⟩ (mgX1_become l D A u8 a0 r8 _ e9 mc9 ms9 hmc9 hms9) (cwV 1 hts (lw_V q770 q772 qs5 q101 q773) rfl rfl rfl (by decide +kernel) ⟨Nat.le_of_ble_eq_true rfl, Nat.le_of_ble_eq_true rfl⟩) (h_preV hGr hr hS ec9 (by decide) (q := (RX1, TX1, 7)) rfl _) rfl rfl hl.1 rfl (lv_room (Nat.le_of_ble_eq_true rfl)) dX1_restore_32 ⟨(bud hc mm9 hmc hms).1, (bud hc mm9 hmc hms).2⟩) hS (fun uu H locs hw hr hS => ?_)
    obtain rfl : u9 = uu := (congrArg Prod.snd hw).symm
    refine lv_aload_n hx hb dX1_restore_35 rfl (lv_at hl 0 rfl) ?_
    obtain ⟨fs10, x10_, e10, f10, hF⟩ := gQ_s hF
    refine h_get (C := RX1) (T := TX1) (N := 7) hx hb hts in_X1 hown hGr hr e10 (by decide) rfl 0 (by decide) (hts _ q633) (fun _ h9 => h9) f10 dX1_restore_36 ?_
    obtain ⟨fs11, x11_, e11, f11, hF⟩ := gQ_s hF
    refine h_getN (C := RX2) (T := TX2) (N := 11) hx hb hts in_X2 hown hGr hr e11 (by decide) rfl 7 (by decide) (va_Nw.use rfl (hGr.nw q583 rfl)) (fun _ h9 => h9) f11 dX1_restore_39 ?_
    obtain ⟨fc12, ec12, hF⟩ := gC_s hF
    obtain ⟨r12, u12, e12, hF⟩ := bnd_s hF
    have mm12 : hle u12 out.2 := (show Mo u12 _ from mo_ret hle_rf) _ hF
    obtain ⟨mc12, ms12, hmc12, hms12⟩ := up_of (moJ2_size u9 x11_ _ e12)
    replace hc := cst_call hc hmc12 hms12
    refine h_callFi (va_runF (hGr.K.1 10 _ rfl).2 (As := []) (rest := []) ⟨hx, hb, hml, hown, hts⟩ (mgJ2_size l D A u9 x11_ _ e12 mc12 ms12 hmc12 hms12) (va_cwF 0 hts (lw_app (lw_fi q1068 q875 q877 q106) (lw_meth q879)) rfl rfl rfl (fw_5 hGr) (by decide +kernel) ⟨Nat.le_of_ble_eq_true rfl, Nat.le_of_ble_eq_true rfl⟩) (h_preV hGr hr hS ec12 (by decide) (q := (RJ2, TJ2, 3)) rfl _) rfl rfl hl.1 rfl (lv_room (Nat.le_of_ble_eq_true rfl)) dX1_restore_42 ⟨(bud hc mm12 hmc hms).1, (bud hc mm12 hmc hms).2⟩) hS (fun rr uu H locs hw hr hS => ?_)
    obtain rfl : u12 = uu := (congrArg Prod.snd hw).symm
    obtain rfl : r12 = rr := (congrArg Prod.fst hw).symm
    have bz := bud_r hc hF hmc hms
    refine vx_ret ?_
    refine W.widen (k := mc) (n := ms) bz.1 bz.2 ?_
    exact W.iret (v := r12) hx hb hret (fun t ht hWm => ⟨⟨r12, u12, rfl, Option.some.inj hF, h_end hGr hr hS ht hWm⟩, hS.F ht⟩) hS.2.2 dX1_restore_47
  · replace hF := hFn
    refine lv_ifnull hx hb dX1_restore_11 ?_
    refine lv_iconst (v := 1) hx hb dX1_restore_14 (by decide) ?_
    refine lv_goto (tgt := 19) hx hb dX1_restore_15 (by decide) ?_
    rcases bnx_s hF with ⟨r13, u13, e13, hF⟩ | ⟨q13, u13, e13, hF⟩
    rotate_left
    · obtain ⟨mc13, ms13, hmc13, hms13⟩ := up_of (moX1_requireState u1 (1 : Int32) _ e13)
      have hcx := cst_call hc hmc13 hms13
      have bx13 := bud_r hcx hF hmc hms
      refine h_xthrv rfl (vx_runS (As := [.int 1]) (rest := []) ⟨hx, hb, hml, hown, hts⟩ (mgX1_requireState l hl0 D A u1 (1 : Int32) _ e13 mc13 ms13 hmc13 hms13) (va_cwS 1 hts (lw_S q1326 q1327 q101 q1328) rfl rfl rfl (by decide +kernel) ⟨Nat.le_of_ble_eq_true rfl, Nat.le_of_ble_eq_true rfl⟩) (h_preS hGr hr hS _) rfl rfl hl.1 rfl (lv_room (Nat.le_of_ble_eq_true rfl)) dX1_restore_19 ⟨bx13.1, bx13.2⟩) hS (fun E9 q9 u9 H locs ce9 e1 e2 e3 hr hS h1 h2 h3 => ?_)
      exact h_xpass hGr htb hlocks hF bx13 e1 e2 e3 hr hS h1 h2 h3
    have mm13 : hle u13 out.2 := (show Mo u13 _ from mo_gQ (fun x14_ => mo_aQ (fun x15_ => mo_gC (mo_bnd (moX2_copy u13 x15_) hle_rf (fun r16 u16 m16 => mo_gC (mo_bnd (moX1_become u16 a0 r16) m16 (fun r17 u17 m17 => mo_gQ (fun x18_ => mo_gQ (fun x19_ => mo_gC (mo_bnd (moJ2_size u17 x19_) m17 (fun r20 u20 m20 => mo_ret m20))))))))))) _ hF
    obtain ⟨mc13, ms13, hmc13, hms13⟩ := up_of (moX1_requireState u1 (1 : Int32) _ e13)
    replace hc := cst_call hc hmc13 hms13
    refine h_xretv rfl (vx_runS (As := [.int 1]) (rest := []) ⟨hx, hb, hml, hown, hts⟩ (mgX1_requireState l hl0 D A u1 (1 : Int32) _ e13 mc13 ms13 hmc13 hms13) (va_cwS 1 hts (lw_S q1326 q1327 q101 q1328) rfl rfl rfl (by decide +kernel) ⟨Nat.le_of_ble_eq_true rfl, Nat.le_of_ble_eq_true rfl⟩) (h_preS hGr hr hS _) rfl rfl hl.1 rfl (lv_room (Nat.le_of_ble_eq_true rfl)) dX1_restore_19 ⟨(bud hc mm13 hmc hms).1, (bud hc mm13 hmc hms).2⟩) hS (fun H locs hr hS => ?_)
    refine lv_aload_n hx hb dX1_restore_22 rfl (lv_at hl 0 rfl) ?_
    refine lv_aload_n hx hb dX1_restore_23 rfl (lv_at hl 0 rfl) ?_
    obtain ⟨fs14, x14_, e14, f14, hF⟩ := gQ_s hF
    refine h_get (C := RX1) (T := TX1) (N := 7) hx hb hts in_X1 hown hGr hr e14 (by decide) rfl 2 (by decide) (hts _ q635) (fun _ h9 => h9) f14 dX1_restore_24 ?_
    refine lv_iload_n hx hb dX1_restore_27 rfl (lv_at hl 1 rfl) ?_
    obtain ⟨n15, f15, x15_, e15, g15, ex15, hF⟩ := aQ_s hF
    refine h_aald hx hb hGr hr (by decide) e15 g15 dX1_restore_28 (v := .ref x15_) (by rw [ex15]; rfl) ?_
    obtain ⟨fc16, ec16, hF⟩ := gC_s hF
    obtain ⟨r16, u16, e16, hF⟩ := bnd_s hF
    have mm16 : hle u16 out.2 := (show Mo u16 _ from mo_gC (mo_bnd (moX1_become u16 a0 r16) hle_rf (fun r17 u17 m17 => mo_gQ (fun x18_ => mo_gQ (fun x19_ => mo_gC (mo_bnd (moJ2_size u17 x19_) m17 (fun r20 u20 m20 => mo_ret m20))))))) _ hF
    obtain ⟨mc16, ms16, hmc16, hms16⟩ := up_of (moX2_copy u13 x15_ _ e16)
    replace hc := cst_call hc hmc16 hms16
    refine h_callr (va_runV (As := []) (rest := [.ref a0]) ⟨hx, hb, hml, hown, hts⟩ (mgX2_copy l D A u13 x15_ _ e16 mc16 ms16 hmc16 hms16) (cwV 0 hts (lw_V q851 q675 q676 q102 q677) rfl rfl rfl (by decide +kernel) ⟨Nat.le_of_ble_eq_true rfl, Nat.le_of_ble_eq_true rfl⟩) (h_preV hGr hr hS ec16 (by decide) (q := (RX2, TX2, 11)) rfl _) rfl rfl hl.1 rfl (lv_room (Nat.le_of_ble_eq_true rfl)) dX1_restore_29 ⟨(bud hc mm16 hmc hms).1, (bud hc mm16 hmc hms).2⟩) hS (fun rr uu H locs hw hr hS => ?_)
    obtain rfl : u16 = uu := (congrArg Prod.snd hw).symm
    obtain rfl : r16 = rr := (congrArg Prod.fst hw).symm
    obtain ⟨fc17, ec17, hF⟩ := gC_s hF
    obtain ⟨r17, u17, e17, hF⟩ := bnd_s hF
    have mm17 : hle u17 out.2 := (show Mo u17 _ from mo_gQ (fun x18_ => mo_gQ (fun x19_ => mo_gC (mo_bnd (moJ2_size u17 x19_) hle_rf (fun r20 u20 m20 => mo_ret m20))))) _ hF
    obtain ⟨mc17, ms17, hmc17, hms17⟩ := up_of (moX1_become u16 a0 r16 _ e17)
    replace hc := cst_call hc hmc17 hms17
    refine h_callv (va_runV (As := [.ref r16]) (rest := []) ⟨hx, hb, hml, hown, hts⟩ (mgX1_become l D A u16 a0 r16 _ e17 mc17 ms17 hmc17 hms17) (cwV 1 hts (lw_V q770 q772 qs5 q101 q773) rfl rfl rfl (by decide +kernel) ⟨Nat.le_of_ble_eq_true rfl, Nat.le_of_ble_eq_true rfl⟩) (h_preV hGr hr hS ec17 (by decide) (q := (RX1, TX1, 7)) rfl _) rfl rfl hl.1 rfl (lv_room (Nat.le_of_ble_eq_true rfl)) dX1_restore_32 ⟨(bud hc mm17 hmc hms).1, (bud hc mm17 hmc hms).2⟩) hS (fun uu H locs hw hr hS => ?_)
    obtain rfl : u17 = uu := (congrArg Prod.snd hw).symm
    refine lv_aload_n hx hb dX1_restore_35 rfl (lv_at hl 0 rfl) ?_
    obtain ⟨fs18, x18_, e18, f18, hF⟩ := gQ_s hF
    refine h_get (C := RX1) (T := TX1) (N := 7) hx hb hts in_X1 hown hGr hr e18 (by decide) rfl 0 (by decide) (hts _ q633) (fun _ h9 => h9) f18 dX1_restore_36 ?_
    obtain ⟨fs19, x19_, e19, f19, hF⟩ := gQ_s hF
    refine h_getN (C := RX2) (T := TX2) (N := 11) hx hb hts in_X2 hown hGr hr e19 (by decide) rfl 7 (by decide) (va_Nw.use rfl (hGr.nw q583 rfl)) (fun _ h9 => h9) f19 dX1_restore_39 ?_
    obtain ⟨fc20, ec20, hF⟩ := gC_s hF
    obtain ⟨r20, u20, e20, hF⟩ := bnd_s hF
    have mm20 : hle u20 out.2 := (show Mo u20 _ from mo_ret hle_rf) _ hF
    obtain ⟨mc20, ms20, hmc20, hms20⟩ := up_of (moJ2_size u17 x19_ _ e20)
    replace hc := cst_call hc hmc20 hms20
    refine h_callFi (va_runF (hGr.K.1 10 _ rfl).2 (As := []) (rest := []) ⟨hx, hb, hml, hown, hts⟩ (mgJ2_size l D A u17 x19_ _ e20 mc20 ms20 hmc20 hms20) (va_cwF 0 hts (lw_app (lw_fi q1068 q875 q877 q106) (lw_meth q879)) rfl rfl rfl (fw_5 hGr) (by decide +kernel) ⟨Nat.le_of_ble_eq_true rfl, Nat.le_of_ble_eq_true rfl⟩) (h_preV hGr hr hS ec20 (by decide) (q := (RJ2, TJ2, 3)) rfl _) rfl rfl hl.1 rfl (lv_room (Nat.le_of_ble_eq_true rfl)) dX1_restore_42 ⟨(bud hc mm20 hmc hms).1, (bud hc mm20 hmc hms).2⟩) hS (fun rr uu H locs hw hr hS => ?_)
    obtain rfl : u20 = uu := (congrArg Prod.snd hw).symm
    obtain rfl : r20 = rr := (congrArg Prod.fst hw).symm
    have bz := bud_r hc hF hmc hms
    refine vx_ret ?_
    refine W.widen (k := mc) (n := ms) bz.1 bz.2 ?_
    exact W.iret (v := r20) hx hb hret (fun t ht hWm => ⟨⟨r20, u20, rfl, Option.some.inj hF, h_end hGr hr hS ht hWm⟩, hS.F ht⟩) hS.2.2 dX1_restore_47
