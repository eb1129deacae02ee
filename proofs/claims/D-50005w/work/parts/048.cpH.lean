/-! the component and what it calls of the library, walked by program (tool/dc.py): G.. the pure function, mo.. its growth, mg.. the contract -/
def GJ13_copyOf (h : Hp) (a0 : Nat) (p1 : Int32) : Option (Nat × Hp) := aL h a0 (fun x1_ => if p1 = x1_ then kA h 1 a0 (fun a7_ h7 => gA h7 a7_ 1 (some (a7_, h7))) else nA h 1 p1 (fun a3_ h3 => aL h3 a0 (fun x4_ => cI h3 1 a0 (0 : Int32) a3_ (0 : Int32) (if p1 < x4_ then p1 else x4_) (fun h6 => some (a3_, h6)))))
theorem moJ13_copyOf (h : Hp) (a0 : Nat) (p1 : Int32) : Mo h (GJ13_copyOf h a0 p1) := by
  unfold GJ13_copyOf
  exact mo_aL (fun x1_ => mo_ite (mo_kA hle_rf (fun a7_ h7 m7 => mo_gA (mo_ret m7))) (mo_nA hle_rf (fun a3_ h3 m3 => mo_aL (fun x4_ => mo_cI m3 (fun h6 m6 => mo_ret m6)))))
set_option maxHeartbeats 4000000 in
set_option maxRecDepth 100000 in
theorem mgJ13_copyOf (l : Launch) (D : HD) (A : Nat → Prop) (h : Hp) (a0 : Nat) (p1 : Int32) (out : Nat × Hp) (hF : GJ13_copyOf h a0 p1 = some out) (mc ms : Nat) (hmc : hCc out.2 = hCc h + mc) (hms : hSl out.2 = hSl h + ms) : Met l yJ13_copyOf (ws_ yJ13_copyOf cJ13_copyOf 3 (some (.array .byte))) ({ frames := 1, cells := mc, slots := ms, locals := 80 }) (va_Pc [.ref a0, .int p1] (hW D A h)) (va_Qr (fun _ : Hp => True) (fun u r t => (r, u) = out ∧ hW D A u t) A) mc ms A := by
  refine va_MetF (cc := cJ13_copyOf) (maxL := 3) (ret := (some (.array .byte))) (by decide +kernel) rfl ?_
  intro p e s m args below meth c s₁ B hml hv
  obtain ⟨rfl, hr, hGr⟩ := hv
  have hx := B.exec
  have hb := B.bytes
  have hret := B.returns
  have hts := atoms_spec (ws := (ws_ yJ13_copyOf cJ13_copyOf 3 (some (.array .byte)))) B.pre
  have hts : ∀ w ∈ lw_all, w.before _ s = true := fun w h => hts w (List.mem_cons_of_mem _ h)
  have hown : s.vm.findClass RJ13 = some m.cls := findClass_of_methodNamed B.named
  have hlocks := B.notSynchronized
  have hS : va_S A s.heap s.heap [] := va_S.rf
  have hc : cst h 0 0 h := cst_0
  have hl := lv_entry ([.ref a0, .int p1]) (n := 3) (Nat.le_of_ble_eq_true rfl)
  rw [lg_entry_eq]
  generalize (lg_sl ([.ref a0, .int p1]) ++ List.replicate (3 - (lg_sl ([.ref a0, .int p1])).length) Slot.unset).toArray = ls at hl ⊢
  have hl : lv_has ls 3 [(0, .ref a0), (1, .int p1)] := hl
  unfold GJ13_copyOf at hF
  refine lv_iload_n hx hb dJ13_copyOf_0 rfl (lv_at hl 1 rfl) ?_
  refine lv_aload_n hx hb dJ13_copyOf_1 rfl (lv_at hl 0 rfl) ?_
  obtain ⟨k1, y1, e1, g1, hF⟩ := aL_s hF
  obtain ⟨x1_, ex1⟩ : ∃ z, z = Int32.ofNat y1.1 := ⟨_, rfl⟩
  rw [← ex1] at hF
  refine h_alen hx hb hGr hr e1 g1 dJ13_copyOf_2 ?_
  rw [← ex1]
  refine lv_icmp_ne (tgt := 14) hx hb dJ13_copyOf_3 (by decide) (fun c2 => ?_) (fun c2 => ?_)
  · replace hF := it_f c2 hF
    refine lv_iload_n hx hb dJ13_copyOf_14 rfl (lv_at hl 1 rfl) ?_
    obtain ⟨a3_, h3, ea3, eh3, g3, hF⟩ := nA_s hF
    have mm3 : hle h3 out.2 := (show Mo h3 _ from mo_aL (fun x4_ => mo_cI hle_rf (fun h6 m6 => mo_ret m6))) _ hF
    replace hc := cst_new hc eh3
    refine h_newB hx hb (hts _ q293) hGr hr hS g3 (bud hc mm3 hmc hms).1 (bud hc mm3 hmc hms).2 dJ13_copyOf_15 (fun H hr hS => ?_)
    rw [← eh3] at hr
    rw [← ea3]
    refine lv_astore_n (lv' := [(2, .ref a3_), (0, .ref a0), (1, .int p1)]) hx hb dJ13_copyOf_17 rfl hl (by decide) rfl (fun ls hl => ?_)
    refine lv_aload_n hx hb dJ13_copyOf_18 rfl (lv_at hl 1 rfl) ?_
    refine lv_iconst (v := 0) hx hb dJ13_copyOf_19 (by decide) ?_
    refine lv_aload_n hx hb dJ13_copyOf_20 rfl (lv_at hl 0 rfl) ?_
    refine lv_iconst (v := 0) hx hb dJ13_copyOf_21 (by decide) ?_
    refine lv_aload_n hx hb dJ13_copyOf_22 rfl (lv_at hl 1 rfl) ?_
    obtain ⟨k4, y4, e4, g4, hF⟩ := aL_s hF
    obtain ⟨x4_, ex4⟩ : ∃ z, z = Int32.ofNat y4.1 := ⟨_, rfl⟩
    rw [← ex4] at hF
    refine h_alen hx hb hGr hr e4 g4 dJ13_copyOf_23 ?_
    rw [← ex4]
    refine lv_iload_n hx hb dJ13_copyOf_24 rfl (lv_at hl 2 rfl) ?_
    have mm5 : hle h3 out.2 := (show Mo h3 _ from mo_cI hle_rf (fun h6 m6 => mo_ret m6)) _ hF
    refine va_mmin hx hb (by rw [hml]; exact hl.1.symm) hown (hts _ q335) (hts _ q336) (hts _ q116) (hts _ q337) (Nat.le_of_ble_eq_true rfl) (Nat.le_of_ble_eq_true rfl) (bud hc mm5 hmc hms).1 (bud hc mm5 hmc hms).2 dJ13_copyOf_25 ?_
    obtain ⟨n6, f6, nn6, g6, ea6, e6, lo6, cp6, ft6, hF⟩ := cI_s hF
    obtain ⟨h6, eh6⟩ : ∃ z, z = hPut h3 a3_ (.inl (1, nn6, .inl (va_cpy f6 g6 ((0 : Int32)).toNatClampNeg ((0 : Int32)).toNatClampNeg ((if p1 < x4_ then p1 else x4_)).toNatClampNeg))) := ⟨_, rfl⟩
    rw [← eh6] at hF
    refine h_copyi hx hb (by rw [hml]; exact hl.1.symm) hown (hts _ q338) (hts _ q340) (hts _ q339) (hts _ q118) hGr hr hS 1 (by decide) ea6 e6 lo6 cp6 ft6 (Nat.le_of_ble_eq_true rfl) (Nat.le_of_ble_eq_true rfl) dJ13_copyOf_28 (fun H locs hr hS => ?_)
    rw [← eh6] at hr
    replace hc := cst_put hc eh6
    refine lv_aload_n hx hb dJ13_copyOf_31 rfl (lv_at hl 0 rfl) ?_
    have bz := bud_r hc hF hmc hms
    refine W.widen (k := mc) (n := ms) bz.1 bz.2 ?_
    exact W.aret (v := .ref a3_) hx hb hret (Or.inr ⟨_, rfl⟩) (Or.inr ⟨_, rfl⟩) (fun t ht hWm => ⟨⟨h6, a3_, rfl, trivial, Option.some.inj hF, h_end hGr hr hS ht hWm⟩, hS.F ht⟩) hS.2.2 dJ13_copyOf_32
  · replace hF := it_t c2 hF
    refine lv_aload_n hx hb dJ13_copyOf_6 rfl (lv_at hl 0 rfl) ?_
    obtain ⟨n7, f7, a7_, h7, e7, ft7, ea7, eh7, hF⟩ := kA_s hF
    have mm7 : hle h7 out.2 := (show Mo h7 _ from mo_gA (mo_ret hle_rf)) _ hF
    replace hc := cst_new hc eh7
    refine h_clone hx hb (by rw [hml]; exact hl.1.symm) hown (hts _ q328) (hts _ q329) (hts _ q330) (hts _ q331) (hts _ q332) (hGr.nw q333 rfl) hGr hr hS 1 (by decide) e7 ft7 (h_nmB hGr) (Nat.le_of_ble_eq_true rfl) (Nat.le_of_ble_eq_true rfl) (bud hc mm7 hmc hms).1 (bud hc mm7 hmc hms).2 dJ13_copyOf_7 (fun H hr hS => ?_)
    rw [← eh7] at hr
    rw [← ea7]
    obtain ⟨y8, e8, hF⟩ := gA_s hF
    refine h_castA hx hb hown (hts _ q334) hr e8 (h_nmB hGr) dJ13_copyOf_10 ?_
    have bz := bud_r hc hF hmc hms
    refine W.widen (k := mc) (n := ms) bz.1 bz.2 ?_
    exact W.aret (v := .ref a7_) hx hb hret (Or.inr ⟨_, rfl⟩) (Or.inr ⟨_, rfl⟩) (fun t ht hWm => ⟨⟨h7, a7_, rfl, trivial, Option.some.inj hF, h_end hGr hr hS ht hWm⟩, hS.F ht⟩) hS.2.2 dJ13_copyOf_13

def GJ9_isLatin1 (h : Hp) (a0 : Nat) : Option (Int32 × Hp) := if (1 : Int32) = 0 then some ((0 : Int32), h) else gI h a0 13 1 (fun x2_ => if x2_ = 0 then some ((1 : Int32), h) else some ((0 : Int32), h))
theorem moJ9_isLatin1 (h : Hp) (a0 : Nat) : Mo h (GJ9_isLatin1 h a0) := by
  unfold GJ9_isLatin1
  exact mo_ite (mo_ret hle_rf) (mo_gI (fun x2_ => mo_ite (mo_ret hle_rf) (mo_ret hle_rf)))
set_option maxHeartbeats 4000000 in
set_option maxRecDepth 100000 in
theorem mgJ9_isLatin1 (l : Launch) (D : HD) (A : Nat → Prop) (h : Hp) (a0 : Nat) (out : Int32 × Hp) (hF : GJ9_isLatin1 h a0 = some out) (mc ms : Nat) (hmc : hCc out.2 = hCc h + mc) (hms : hSl out.2 = hSl h + ms) : Met l yJ9_isLatin1 (ws_ yJ9_isLatin1 cJ9_isLatin1 1 (some .boolean)) ({ frames := 0, cells := mc, slots := ms, locals := 0 }) (va_Pc [.ref a0] (hW D A h)) (va_Qi (fun r u => (r, u) = out) (hW D A) A) mc ms A := by
  refine va_MetF (cc := cJ9_isLatin1) (maxL := 1) (ret := (some .boolean)) (by decide +kernel) rfl ?_
  intro p e s m args below meth c s₁ B hml hv
  obtain ⟨rfl, hr, hGr⟩ := hv
  have hx := B.exec
  have hb := B.bytes
  have hret := B.returns
  have hts := atoms_spec (ws := (ws_ yJ9_isLatin1 cJ9_isLatin1 1 (some .boolean))) B.pre
  have hts : ∀ w ∈ lw_all, w.before _ s = true := fun w h => hts w (List.mem_cons_of_mem _ h)
  have hown : s.vm.findClass RJ9 = some m.cls := findClass_of_methodNamed B.named
  have hlocks := B.notSynchronized
  have hS : va_S A s.heap s.heap [] := va_S.rf
  have hc : cst h 0 0 h := cst_0
  have hl := lv_entry ([.ref a0]) (n := 1) (Nat.le_of_ble_eq_true rfl)
  rw [lg_entry_eq]
  generalize (lg_sl ([.ref a0]) ++ List.replicate (1 - (lg_sl ([.ref a0])).length) Slot.unset).toArray = ls at hl ⊢
  have hl : lv_has ls 1 [(0, .ref a0)] := hl
  unfold GJ9_isLatin1 at hF
  refine va_gets hx hb hGr.cs hS hown (hts _ q380) (fun _ h9 => h9) dJ9_isLatin1_0 ?_
  refine lv_if_eq (tgt := 17) hx hb dJ9_isLatin1_3 (by decide) (fun c1 => ?_) (fun c1 => ?_)
  · replace hF := it_t c1 hF
    refine lv_iconst (v := 0) hx hb dJ9_isLatin1_17 (by decide) ?_
    have bz := bud_r hc hF hmc hms
    refine W.widen (k := mc) (n := ms) bz.1 bz.2 ?_
    exact W.zret (v := (0 : Int32)) hx hb hret rfl (fun t ht hWm => ⟨⟨(0 : Int32), h, rfl, Option.some.inj hF, h_end hGr hr hS ht hWm⟩, hS.F ht⟩) hS.2.2 dJ9_isLatin1_18
  · replace hF := it_f c1 hF
    refine lv_aload_n hx hb dJ9_isLatin1_6 rfl (lv_at hl 0 rfl) ?_
    obtain ⟨fs2, x2_, e2, f2, hF⟩ := gI_s hF
    refine h_get (C := RJ9) (T := TJ9) (N := 4) hx hb hts in_J9 hown hGr hr e2 (by decide) rfl 1 (by decide) (hts _ q522) (fun _ h9 => h9) f2 dJ9_isLatin1_7 ?_
    refine lv_if_ne (tgt := 17) hx hb dJ9_isLatin1_10 (by decide) (fun c3 => ?_) (fun c3 => ?_)
    · replace hF := it_f c3 hF
      refine lv_iconst (v := 0) hx hb dJ9_isLatin1_17 (by decide) ?_
      have bz := bud_r hc hF hmc hms
      refine W.widen (k := mc) (n := ms) bz.1 bz.2 ?_
      exact W.zret (v := (0 : Int32)) hx hb hret rfl (fun t ht hWm => ⟨⟨(0 : Int32), h, rfl, Option.some.inj hF, h_end hGr hr hS ht hWm⟩, hS.F ht⟩) hS.2.2 dJ9_isLatin1_18
    · replace hF := it_t c3 hF
      refine lv_iconst (v := 1) hx hb dJ9_isLatin1_13 (by decide) ?_
      refine lv_goto (tgt := 18) hx hb dJ9_isLatin1_14 (by decide) ?_
      have bz := bud_r hc hF hmc hms
      refine W.widen (k := mc) (n := ms) bz.1 bz.2 ?_
      exact W.zret (v := (1 : Int32)) hx hb hret rfl (fun t ht hWm => ⟨⟨(1 : Int32), h, rfl, Option.some.inj hF, h_end hGr hr hS ht hWm⟩, hS.F ht⟩) hS.2.2 dJ9_isLatin1_18

def GJ9_coder (h : Hp) (a0 : Nat) : Option (Int32 × Hp) := if (1 : Int32) = 0 then some ((1 : Int32), h) else gI h a0 13 1 (fun x2_ => gd (byB x2_) (some (x2_, h)))
theorem moJ9_coder (h : Hp) (a0 : Nat) : Mo h (GJ9_coder h a0) := by
  unfold GJ9_coder
  exact mo_ite (mo_ret hle_rf) (mo_gI (fun x2_ => mo_gd (mo_ret hle_rf)))
set_option maxHeartbeats 4000000 in
set_option maxRecDepth 100000 in
theorem mgJ9_coder (l : Launch) (D : HD) (A : Nat → Prop) (h : Hp) (a0 : Nat) (out : Int32 × Hp) (hF : GJ9_coder h a0 = some out) (mc ms : Nat) (hmc : hCc out.2 = hCc h + mc) (hms : hSl out.2 = hSl h + ms) : Met l yJ9_coder (ws_ yJ9_coder cJ9_coder 1 (some .byte)) ({ frames := 0, cells := mc, slots := ms, locals := 0 }) (va_Pc [.ref a0] (hW D A h)) (va_Qi (fun r u => (r, u) = out) (hW D A) A) mc ms A := by
  refine va_MetF (cc := cJ9_coder) (maxL := 1) (ret := (some .byte)) (by decide +kernel) rfl ?_
  intro p e s m args below meth c s₁ B hml hv
  obtain ⟨rfl, hr, hGr⟩ := hv
  have hx := B.exec
  have hb := B.bytes
  have hret := B.returns
  have hts := atoms_spec (ws := (ws_ yJ9_coder cJ9_coder 1 (some .byte))) B.pre
  have hts : ∀ w ∈ lw_all, w.before _ s = true := fun w h => hts w (List.mem_cons_of_mem _ h)
  have hown : s.vm.findClass RJ9 = some m.cls := findClass_of_methodNamed B.named
  have hlocks := B.notSynchronized
  have hS : va_S A s.heap s.heap [] := va_S.rf
  have hc : cst h 0 0 h := cst_0
  have hl := lv_entry ([.ref a0]) (n := 1) (Nat.le_of_ble_eq_true rfl)
  rw [lg_entry_eq]
  generalize (lg_sl ([.ref a0]) ++ List.replicate (1 - (lg_sl ([.ref a0])).length) Slot.unset).toArray = ls at hl ⊢
  have hl : lv_has ls 1 [(0, .ref a0)] := hl
  unfold GJ9_coder at hF
  refine va_gets hx hb hGr.cs hS hown (hts _ q380) (fun _ h9 => h9) dJ9_coder_0 ?_
  refine lv_if_eq (tgt := 13) hx hb dJ9_coder_3 (by decide) (fun c1 => ?_) (fun c1 => ?_)
  · replace hF := it_t c1 hF
    refine lv_iconst (v := 1) hx hb dJ9_coder_13 (by decide) ?_
    have bz := bud_r hc hF hmc hms
    refine W.widen (k := mc) (n := ms) bz.1 bz.2 ?_
    exact W.zret (v := (1 : Int32)) hx hb hret rfl (fun t ht hWm => ⟨⟨(1 : Int32), h, rfl, Option.some.inj hF, h_end hGr hr hS ht hWm⟩, hS.F ht⟩) hS.2.2 dJ9_coder_14
  · replace hF := it_f c1 hF
    refine lv_aload_n hx hb dJ9_coder_6 rfl (lv_at hl 0 rfl) ?_
    obtain ⟨fs2, x2_, e2, f2, hF⟩ := gI_s hF
    refine h_get (C := RJ9) (T := TJ9) (N := 4) hx hb hts in_J9 hown hGr hr e2 (by decide) rfl 1 (by decide) (hts _ q522) (fun _ h9 => h9) f2 dJ9_coder_7 ?_
    refine lv_goto (tgt := 14) hx hb dJ9_coder_10 (by decide) ?_
    obtain ⟨g3, hF⟩ := gd_s hF
    have bz := bud_r hc hF hmc hms
    refine W.widen (k := mc) (n := ms) bz.1 bz.2 ?_
    exact W.zret (v := x2_) hx hb hret (by_of g3) (fun t ht hWm => ⟨⟨x2_, h, rfl, Option.some.inj hF, h_end hGr hr hS ht hWm⟩, hS.F ht⟩) hS.2.2 dJ9_coder_14

def GJ9_length (h : Hp) (a0 : Nat) : Option (Int32 × Hp) := gQ h a0 13 0 (fun x1_ => aL h x1_ (fun x2_ => gC h a0 13 (bnd (GJ9_coder h a0) (fun r3 u3 => some ((x2_ >>> (r3 &&& 31)), u3)))))
theorem moJ9_length (h : Hp) (a0 : Nat) : Mo h (GJ9_length h a0) := by
  unfold GJ9_length
  exact mo_gQ (fun x1_ => mo_aL (fun x2_ => mo_gC (mo_bnd (moJ9_coder h a0) hle_rf (fun r3 u3 m3 => mo_ret m3))))
set_option maxHeartbeats 4000000 in
set_option maxRecDepth 100000 in
theorem mgJ9_length (l : Launch) (D : HD) (A : Nat → Prop) (h : Hp) (a0 : Nat) (out : Int32 × Hp) (hF : GJ9_length h a0 = some out) (mc ms : Nat) (hmc : hCc out.2 = hCc h + mc) (hms : hSl out.2 = hSl h + ms) : Met l yJ9_length (ws_ yJ9_length cJ9_length 1 (some .int)) ({ frames := 1, cells := mc, slots := ms, locals := 20 }) (va_Pc [.ref a0] (hW D A h)) (va_Qi (fun r u => (r, u) = out) (hW D A) A) mc ms A := by
  refine va_MetF (cc := cJ9_length) (maxL := 1) (ret := (some .int)) (by decide +kernel) rfl ?_
  intro p e s m args below meth c s₁ B hml hv
  obtain ⟨rfl, hr, hGr⟩ := hv
  have hx := B.exec
  have hb := B.bytes
  have hret := B.returns
  have hts := atoms_spec (ws := (ws_ yJ9_length cJ9_length 1 (some .int))) B.pre
  have hts : ∀ w ∈ lw_all, w.before _ s = true := fun w h => hts w (List.mem_cons_of_mem _ h)
  have hown : s.vm.findClass RJ9 = some m.cls := findClass_of_methodNamed B.named
  have hlocks := B.notSynchronized
  have hS : va_S A s.heap s.heap [] := va_S.rf
  have hc : cst h 0 0 h := cst_0
  have hl := lv_entry ([.ref a0]) (n := 1) (Nat.le_of_ble_eq_true rfl)
  rw [lg_entry_eq]
  generalize (lg_sl ([.ref a0]) ++ List.replicate (1 - (lg_sl ([.ref a0])).length) Slot.unset).toArray = ls at hl ⊢
  have hl : lv_has ls 1 [(0, .ref a0)] := hl
  unfold GJ9_length at hF
  refine lv_aload_n hx hb dJ9_length_0 rfl (lv_at hl 0 rfl) ?_
  obtain ⟨fs1, x1_, e1, f1, hF⟩ := gQ_s hF
  refine h_get (C := RJ9) (T := TJ9) (N := 4) hx hb hts in_J9 hown hGr hr e1 (by decide) rfl 0 (by decide) (hts _ q521) (fun _ h9 => h9) f1 dJ9_length_1 ?_
  obtain ⟨k2, y2, e2, g2, hF⟩ := aL_s hF
  obtain ⟨x2_, ex2⟩ : ∃ z, z = Int32.ofNat y2.1 := ⟨_, rfl⟩
  rw [← ex2] at hF
  refine h_alen hx hb hGr hr e2 g2 dJ9_length_4 ?_
  rw [← ex2]
  refine lv_aload_n hx hb dJ9_length_5 rfl (lv_at hl 0 rfl) ?_
  obtain ⟨fc3, ec3, hF⟩ := gC_s hF
  obtain ⟨r3, u3, e3, hF⟩ := bnd_s hF
  have mm3 : hle u3 out.2 := (show Mo u3 _ from mo_ret hle_rf) _ hF
  obtain ⟨mc3, ms3, hmc3, hms3⟩ := up_of (moJ9_coder h a0 _ e3)
  replace hc := cst_call hc hmc3 hms3
  refine h_calli (va_runV (As := []) (rest := [.int x2_]) ⟨hx, hb, hml, hown, hts⟩ (mgJ9_coder l D A h a0 _ e3 mc3 ms3 hmc3 hms3) (cwV 0 hts (lw_V q376 q377 q378 q113 q379) rfl rfl rfl (by decide +kernel) ⟨Nat.le_of_ble_eq_true rfl, Nat.le_of_ble_eq_true rfl⟩) (h_preV hGr hr hS ec3 (by decide) (q := (RJ9, TJ9, 4)) rfl _) rfl rfl hl.1 rfl (lv_room (Nat.le_of_ble_eq_true rfl)) dJ9_length_6 ⟨(bud hc mm3 hmc hms).1, (bud hc mm3 hmc hms).2⟩) hS (fun rr uu H locs hw hr hS => ?_)
  obtain rfl : u3 = uu := (congrArg Prod.snd hw).symm
  obtain rfl : r3 = rr := (congrArg Prod.fst hw).symm
  refine lv_ishr hx hb dJ9_length_9 ?_
  have bz := bud_r hc hF hmc hms
  refine W.widen (k := mc) (n := ms) bz.1 bz.2 ?_
  exact W.iret (v := (x2_ >>> (r3 &&& 31))) hx hb hret (fun t ht hWm => ⟨⟨(x2_ >>> (r3 &&& 31)), u3, rfl, Option.some.inj hF, h_end hGr hr hS ht hWm⟩, hS.F ht⟩) hS.2.2 dJ9_length_10

def GJ14_checkIndexS (h : Hp) (p0 : Int32) (p1 : Int32) : Option (Int32 × Hp) := if p0 < 0 then none else if p0 < p1 then some (p0, h) else none
theorem moJ14_checkIndexS (h : Hp) (p0 : Int32) (p1 : Int32) : Mo h (GJ14_checkIndexS h p0 p1) := by
  unfold GJ14_checkIndexS
  exact mo_ite (mo_no) (mo_ite (mo_ret hle_rf) (mo_no))
set_option maxHeartbeats 4000000 in
set_option maxRecDepth 100000 in
theorem mgJ14_checkIndexS (l : Launch) (D : HD) (A : Nat → Prop) (h : Hp) (p0 : Int32) (p1 : Int32) (out : Int32 × Hp) (hF : GJ14_checkIndexS h p0 p1 = some out) (mc ms : Nat) (hmc : hCc out.2 = hCc h + mc) (hms : hSl out.2 = hSl h + ms) : Met l yJ14_checkIndex (ws_ yJ14_checkIndex cJ14_checkIndex 3 (some .int)) ({ frames := 0, cells := mc, slots := ms, locals := 0 }) (va_Pc [.int p0, .int p1, .ref (D.2 300)] (hW D A h)) (va_Qi (fun r u => (r, u) = out) (hW D A) A) mc ms A := by
  refine va_MetF (cc := cJ14_checkIndex) (maxL := 3) (ret := (some .int)) (by decide +kernel) rfl ?_
  intro p e s m args below meth c s₁ B hml hv
  obtain ⟨rfl, hr, hGr⟩ := hv
  have hx := B.exec
  have hb := B.bytes
  have hret := B.returns
  have hts := atoms_spec (ws := (ws_ yJ14_checkIndex cJ14_checkIndex 3 (some .int))) B.pre
  have hts : ∀ w ∈ lw_all, w.before _ s = true := fun w h => hts w (List.mem_cons_of_mem _ h)
  have hown : s.vm.findClass RJ14 = some m.cls := findClass_of_methodNamed B.named
  have hlocks := B.notSynchronized
  have hS : va_S A s.heap s.heap [] := va_S.rf
  have hc : cst h 0 0 h := cst_0
  have hl := lv_entry ([.int p0, .int p1, .ref (D.2 300)]) (n := 3) (Nat.le_of_ble_eq_true rfl)
  rw [lg_entry_eq]
  generalize (lg_sl ([.int p0, .int p1, .ref (D.2 300)]) ++ List.replicate (3 - (lg_sl ([.int p0, .int p1, .ref (D.2 300)])).length) Slot.unset).toArray = ls at hl ⊢
  have hl : lv_has ls 3 [(0, .int p0), (1, .int p1), (2, .ref (D.2 300))] := hl
  unfold GJ14_checkIndexS at hF
  refine lv_iload_n hx hb dJ14_checkIndex_0 rfl (lv_at hl 0 rfl) ?_
  refine lv_if_lt (tgt := 9) hx hb dJ14_checkIndex_1 (by decide) (fun c1 => ?_) (fun c1 => ?_)
  · replace hF := it_t c1 hF
    exact nomatch hF
  · replace hF := it_f c1 hF
    refine lv_iload_n hx hb dJ14_checkIndex_4 rfl (lv_at hl 0 rfl) ?_
    refine lv_iload_n hx hb dJ14_checkIndex_5 rfl (lv_at hl 1 rfl) ?_
    refine lv_icmp_lt (tgt := 16) hx hb dJ14_checkIndex_6 (by decide) (fun c2 => ?_) (fun c2 => ?_)
    · replace hF := it_t c2 hF
      refine lv_iload_n hx hb dJ14_checkIndex_16 rfl (lv_at hl 0 rfl) ?_
      have bz := bud_r hc hF hmc hms
      refine W.widen (k := mc) (n := ms) bz.1 bz.2 ?_
      exact W.iret (v := p0) hx hb hret (fun t ht hWm => ⟨⟨p0, h, rfl, Option.some.inj hF, h_end hGr hr hS ht hWm⟩, hS.F ht⟩) hS.2.2 dJ14_checkIndex_17
    · replace hF := it_f c2 hF
      exact nomatch hF

def GJ9_checkIndex (h : Hp) (p0 : Int32) (p1 : Int32) : Option (Int32 × Hp) := bnd (GJ14_checkIndexS h p0 p1) (fun r1 u1 => some (0, u1))
theorem moJ9_checkIndex (h : Hp) (p0 : Int32) (p1 : Int32) : Mo h (GJ9_checkIndex h p0 p1) := by
  unfold GJ9_checkIndex
  exact mo_bnd (moJ14_checkIndexS h p0 p1) hle_rf (fun r1 u1 m1 => mo_ret m1)
set_option maxHeartbeats 4000000 in
set_option maxRecDepth 100000 in
theorem mgJ9_checkIndex (l : Launch) (D : HD) (A : Nat → Prop) (h : Hp) (p0 : Int32) (p1 : Int32) (out : Int32 × Hp) (hF : GJ9_checkIndex h p0 p1 = some out) (mc ms : Nat) (hmc : hCc out.2 = hCc h + mc) (hms : hSl out.2 = hSl h + ms) : Met l yJ9_checkIndex (ws_ yJ9_checkIndex cJ9_checkIndex 2 none) ({ frames := 1, cells := mc, slots := ms, locals := 22 }) (va_Pc [.int p0, .int p1] (hW D A h)) (va_Qv (fun u => (0, u) = out) (hW D A) A) mc ms A := by
  refine va_MetF (cc := cJ9_checkIndex) (maxL := 2) (ret := none) (by decide +kernel) rfl ?_
  intro p e s m args below meth c s₁ B hml hv
  obtain ⟨rfl, hr, hGr⟩ := hv
  have hx := B.exec
  have hb := B.bytes
  have hret := B.returns
  have hts := atoms_spec (ws := (ws_ yJ9_checkIndex cJ9_checkIndex 2 none)) B.pre
  have hts : ∀ w ∈ lw_all, w.before _ s = true := fun w h => hts w (List.mem_cons_of_mem _ h)
  have hown : s.vm.findClass RJ9 = some m.cls := findClass_of_methodNamed B.named
  have hlocks := B.notSynchronized
  have hS : va_S A s.heap s.heap [] := va_S.rf
  have hc : cst h 0 0 h := cst_0
  have hl := lv_entry ([.int p0, .int p1]) (n := 2) (Nat.le_of_ble_eq_true rfl)
  rw [lg_entry_eq]
  generalize (lg_sl ([.int p0, .int p1]) ++ List.replicate (2 - (lg_sl ([.int p0, .int p1])).length) Slot.unset).toArray = ls at hl ⊢
  have hl : lv_has ls 2 [(0, .int p0), (1, .int p1)] := hl
  unfold GJ9_checkIndex at hF
  refine lv_iload_n hx hb dJ9_checkIndex_0 rfl (lv_at hl 0 rfl) ?_
  refine lv_iload_n hx hb dJ9_checkIndex_1 rfl (lv_at hl 1 rfl) ?_
  refine va_gets hx hb hGr.kst.1 hS hown (hts _ q358) (fun _ h9 => h9) dJ9_checkIndex_2 ?_
  obtain ⟨r1, u1, e1, hF⟩ := bnd_s hF
  have mm1 : hle u1 out.2 := (show Mo u1 _ from mo_ret hle_rf) _ hF
  obtain ⟨mc1, ms1, hmc1, hms1⟩ := up_of (moJ14_checkIndexS h p0 p1 _ e1)
  replace hc := cst_call hc hmc1 hms1
  refine h_calli (va_runS (As := [.int p0, .int p1, .ref (D.2 300)]) (rest := []) ⟨hx, hb, hml, hown, hts⟩ (mgJ14_checkIndexS l D A h p0 p1 _ e1 mc1 ms1 hmc1 hms1) (va_cwS 3 hts (lw_S q1297 q943 q119 q944) rfl rfl rfl (by decide +kernel) ⟨Nat.le_of_ble_eq_true rfl, Nat.le_of_ble_eq_true rfl⟩) (h_preS hGr hr hS _) rfl rfl hl.1 rfl (lv_room (Nat.le_of_ble_eq_true rfl)) dJ9_checkIndex_5 ⟨(bud hc mm1 hmc hms).1, (bud hc mm1 hmc hms).2⟩) hS (fun rr uu H locs hw hr hS => ?_)
  obtain rfl : u1 = uu := (congrArg Prod.snd hw).symm
  obtain rfl : r1 = rr := (congrArg Prod.fst hw).symm
  refine lv_pop hx hb dJ9_checkIndex_8 rfl ?_
  have bz := bud_r hc hF hmc hms
  refine W.widen (k := mc) (n := ms) bz.1 bz.2 ?_
  exact W.vret hx hb hret (fun t ht hWm => ⟨⟨u1, rfl, Option.some.inj hF, h_end hGr hr hS ht hWm⟩, hS.F ht⟩) hS.2.2 dJ9_checkIndex_9

def GJ15_charAt (h : Hp) (a0 : Nat) (p1 : Int32) : Option (Int32 × Hp) := aL h a0 (fun x1_ => bnd (GJ9_checkIndex h p1 x1_) (fun r2 u2 => aI u2 a0 1 p1 (fun x3_ => gd (chB ((((x3_ &&& 255)).toUInt32 % 65536).toInt32)) (some (((((x3_ &&& 255)).toUInt32 % 65536).toInt32), u2)))))
theorem moJ15_charAt (h : Hp) (a0 : Nat) (p1 : Int32) : Mo h (GJ15_charAt h a0 p1) := by
  unfold GJ15_charAt
  exact mo_aL (fun x1_ => mo_bnd (moJ9_checkIndex h p1 x1_) hle_rf (fun r2 u2 m2 => mo_aI (fun x3_ => mo_gd (mo_ret m2))))
set_option maxHeartbeats 4000000 in
set_option maxRecDepth 100000 in
theorem mgJ15_charAt (l : Launch) (D : HD) (A : Nat → Prop) (h : Hp) (a0 : Nat) (p1 : Int32) (out : Int32 × Hp) (hF : GJ15_charAt h a0 p1 = some out) (mc ms : Nat) (hmc : hCc out.2 = hCc h + mc) (hms : hSl out.2 = hSl h + ms) : Met l yJ15_charAt (ws_ yJ15_charAt cJ15_charAt 2 (some .char)) ({ frames := 2, cells := mc, slots := ms, locals := 43 }) (va_Pc [.ref a0, .int p1] (hW D A h)) (va_Qi (fun r u => (r, u) = out) (hW D A) A) mc ms A := by
  refine va_MetF (cc := cJ15_charAt) (maxL := 2) (ret := (some .char)) (by decide +kernel) rfl ?_
  intro p e s m args below meth c s₁ B hml hv
  obtain ⟨rfl, hr, hGr⟩ := hv
  have hx := B.exec
  have hb := B.bytes
  have hret := B.returns
  have hts := atoms_spec (ws := (ws_ yJ15_charAt cJ15_charAt 2 (some .char))) B.pre
  have hts : ∀ w ∈ lw_all, w.before _ s = true := fun w h => hts w (List.mem_cons_of_mem _ h)
  have hown : s.vm.findClass RJ15 = some m.cls := findClass_of_methodNamed B.named
  have hlocks := B.notSynchronized
  have hS : va_S A s.heap s.heap [] := va_S.rf
  have hc : cst h 0 0 h := cst_0
  have hl := lv_entry ([.ref a0, .int p1]) (n := 2) (Nat.le_of_ble_eq_true rfl)
  rw [lg_entry_eq]
  generalize (lg_sl ([.ref a0, .int p1]) ++ List.replicate (2 - (lg_sl ([.ref a0, .int p1])).length) Slot.unset).toArray = ls at hl ⊢
  have hl : lv_has ls 2 [(0, .ref a0), (1, .int p1)] := hl
  unfold GJ15_charAt at hF
  refine lv_iload_n hx hb dJ15_charAt_0 rfl (lv_at hl 1 rfl) ?_
  refine lv_aload_n hx hb dJ15_charAt_1 rfl (lv_at hl 0 rfl) ?_
  obtain ⟨k1, y1, e1, g1, hF⟩ := aL_s hF
  obtain ⟨x1_, ex1⟩ : ∃ z, z = Int32.ofNat y1.1 := ⟨_, rfl⟩
  rw [← ex1] at hF
  refine h_alen hx hb hGr hr e1 g1 dJ15_charAt_2 ?_
  rw [← ex1]
  obtain ⟨r2, u2, e2, hF⟩ := bnd_s hF
  have mm2 : hle u2 out.2 := (show Mo u2 _ from mo_aI (fun x3_ => mo_gd (mo_ret hle_rf))) _ hF
  obtain ⟨mc2, ms2, hmc2, hms2⟩ := up_of (moJ9_checkIndex h p1 x1_ _ e2)
  replace hc := cst_call hc hmc2 hms2
  refine h_callv (va_runS (As := [.int p1, .int x1_]) (rest := []) ⟨hx, hb, hml, hown, hts⟩ (mgJ9_checkIndex l D A h p1 x1_ _ e2 mc2 ms2 hmc2 hms2) (va_cwS 2 hts (lw_S q1313 q1295 q113 q1296) rfl rfl rfl (by decide +kernel) ⟨Nat.le_of_ble_eq_true rfl, Nat.le_of_ble_eq_true rfl⟩) (h_preS hGr hr hS _) rfl rfl hl.1 rfl (lv_room (Nat.le_of_ble_eq_true rfl)) dJ15_charAt_3 ⟨(bud hc mm2 hmc hms).1, (bud hc mm2 hmc hms).2⟩) hS (fun uu H locs hw hr hS => ?_)
  obtain rfl : u2 = uu := (congrArg Prod.snd hw).symm
  refine lv_aload_n hx hb dJ15_charAt_6 rfl (lv_at hl 0 rfl) ?_
  refine lv_iload_n hx hb dJ15_charAt_7 rfl (lv_at hl 1 rfl) ?_
  obtain ⟨n3, f3, e3, g3, hF⟩ := aI_s hF
  obtain ⟨x3_, ex3⟩ : ∃ z, z = f3 (p1).toNatClampNeg := ⟨_, rfl⟩
  rw [← ex3] at hF
  refine h_bald hx hb hGr hr 1 rfl e3 g3 dJ15_charAt_8 ?_
  rw [← ex3]
  refine lv_sipush (v := 255) hx hb dJ15_charAt_9 (by decide) ?_
  refine lv_iand hx hb dJ15_charAt_12 ?_
  refine lv_i2c (v := (((x3_ &&& 255)).toUInt32 % 65536).toInt32) hx hb dJ15_charAt_13 rfl ?_
  obtain ⟨g4, hF⟩ := gd_s hF
  have bz := bud_r hc hF hmc hms
  refine W.widen (k := mc) (n := ms) bz.1 bz.2 ?_
  exact W.zret (v := ((((x3_ &&& 255)).toUInt32 % 65536).toInt32)) hx hb hret (ch_of g4) (fun t ht hWm => ⟨⟨((((x3_ &&& 255)).toUInt32 % 65536).toInt32), u2, rfl, Option.some.inj hF, h_end hGr hr hS ht hWm⟩, hS.F ht⟩) hS.2.2 dJ15_charAt_14

def GJ9_charAt (h : Hp) (a0 : Nat) (p1 : Int32) : Option (Int32 × Hp) := gC h a0 13 (bnd (GJ9_isLatin1 h a0) (fun r1 u1 => if r1 = 0 then none else gQ u1 a0 13 0 (fun x3_ => bnd (GJ15_charAt u1 x3_ p1) (fun r4 u4 => gd (chB r4) (some (r4, u4))))))
theorem moJ9_charAt (h : Hp) (a0 : Nat) (p1 : Int32) : Mo h (GJ9_charAt h a0 p1) := by
  unfold GJ9_charAt
  exact mo_gC (mo_bnd (moJ9_isLatin1 h a0) hle_rf (fun r1 u1 m1 => mo_ite (mo_no) (mo_gQ (fun x3_ => mo_bnd (moJ15_charAt u1 x3_ p1) m1 (fun r4 u4 m4 => mo_gd (mo_ret m4))))))
set_option maxHeartbeats 4000000 in
set_option maxRecDepth 100000 in
theorem mgJ9_charAt (l : Launch) (D : HD) (A : Nat → Prop) (h : Hp) (a0 : Nat) (p1 : Int32) (out : Int32 × Hp) (hF : GJ9_charAt h a0 p1 = some out) (mc ms : Nat) (hmc : hCc out.2 = hCc h + mc) (hms : hSl out.2 = hSl h + ms) : Met l yJ9_charAt (ws_ yJ9_charAt cJ9_charAt 2 (some .char)) ({ frames := 3, cells := mc, slots := ms, locals := 64 }) (va_Pc [.ref a0, .int p1] (hW D A h)) (va_Qi (fun r u => (r, u) = out) (hW D A) A) mc ms A := by
  refine va_MetF (cc := cJ9_charAt) (maxL := 2) (ret := (some .char)) (by decide +kernel) rfl ?_
  intro p e s m args below meth c s₁ B hml hv
  obtain ⟨rfl, hr, hGr⟩ := hv
  have hx := B.exec
  have hb := B.bytes
  have hret := B.returns
  have hts := atoms_spec (ws := (ws_ yJ9_charAt cJ9_charAt 2 (some .char))) B.pre
  have hts : ∀ w ∈ lw_all, w.before _ s = true := fun w h => hts w (List.mem_cons_of_mem _ h)
  have hown : s.vm.findClass RJ9 = some m.cls := findClass_of_methodNamed B.named
  have hlocks := B.notSynchronized
  have hS : va_S A s.heap s.heap [] := va_S.rf
  have hc : cst h 0 0 h := cst_0
  have hl := lv_entry ([.ref a0, .int p1]) (n := 2) (Nat.le_of_ble_eq_true rfl)
  rw [lg_entry_eq]
  generalize (lg_sl ([.ref a0, .int p1]) ++ List.replicate (2 - (lg_sl ([.ref a0, .int p1])).length) Slot.unset).toArray = ls at hl ⊢
  have hl : lv_has ls 2 [(0, .ref a0), (1, .int p1)] := hl
  unfold GJ9_charAt at hF
  refine lv_aload_n hx hb dJ9_charAt_0 rfl (lv_at hl 0 rfl) ?_
  obtain ⟨fc1, ec1, hF⟩ := gC_s hF
  obtain ⟨r1, u1, e1, hF⟩ := bnd_s hF
  have mm1 : hle u1 out.2 := (show Mo u1 _ from mo_ite (mo_no) (mo_gQ (fun x3_ => mo_bnd (moJ15_charAt u1 x3_ p1) hle_rf (fun r4 u4 m4 => mo_gd (mo_ret m4))))) _ hF
  obtain ⟨mc1, ms1, hmc1, hms1⟩ := up_of (moJ9_isLatin1 h a0 _ e1)
  replace hc := cst_call hc hmc1 hms1
  refine h_calli (va_runV (As := []) (rest := []) ⟨hx, hb, hml, hown, hts⟩ (mgJ9_isLatin1 l D A h a0 _ e1 mc1 ms1 hmc1 hms1) (cwV 0 hts (lw_V q1306 q1307 q1308 q113 q1309) rfl rfl rfl (by decide +kernel) ⟨Nat.le_of_ble_eq_true rfl, Nat.le_of_ble_eq_true rfl⟩) (h_preV hGr hr hS ec1 (by decide) (q := (RJ9, TJ9, 4)) rfl _) rfl rfl hl.1 rfl (lv_room (Nat.le_of_ble_eq_true rfl)) dJ9_charAt_1 ⟨(bud hc mm1 hmc hms).1, (bud hc mm1 hmc hms).2⟩) hS (fun rr uu H locs hw hr hS => ?_)
  obtain rfl : u1 = uu := (congrArg Prod.snd hw).symm
  obtain rfl : r1 = rr := (congrArg Prod.fst hw).symm
  refine lv_if_eq (tgt := 16) hx hb dJ9_charAt_4 (by decide) (fun c2 => ?_) (fun c2 => ?_)
  · replace hF := it_t c2 hF
    exact nomatch hF
  · replace hF := it_f c2 hF
    refine lv_aload_n hx hb dJ9_charAt_7 rfl (lv_at hl 0 rfl) ?_
    obtain ⟨fs3, x3_, e3, f3, hF⟩ := gQ_s hF
    refine h_get (C := RJ9) (T := TJ9) (N := 4) hx hb hts in_J9 hown hGr hr e3 (by decide) rfl 0 (by decide) (hts _ q521) (fun _ h9 => h9) f3 dJ9_charAt_8 ?_
    refine lv_iload_n hx hb dJ9_charAt_11 rfl (lv_at hl 1 rfl) ?_
    obtain ⟨r4, u4, e4, hF⟩ := bnd_s hF
    have mm4 : hle u4 out.2 := (show Mo u4 _ from mo_gd (mo_ret hle_rf)) _ hF
    obtain ⟨mc4, ms4, hmc4, hms4⟩ := up_of (moJ15_charAt u1 x3_ p1 _ e4)
    replace hc := cst_call hc hmc4 hms4
    refine h_calli (va_runS (As := [.ref x3_, .int p1]) (rest := []) ⟨hx, hb, hml, hown, hts⟩ (mgJ15_charAt l D A u1 x3_ p1 _ e4 mc4 ms4 hmc4 hms4) (va_cwS 2 hts (lw_S q1310 q1311 q120 q1312) rfl rfl rfl (by decide +kernel) ⟨Nat.le_of_ble_eq_true rfl, Nat.le_of_ble_eq_true rfl⟩) (h_preS hGr hr hS _) rfl rfl hl.1 rfl (lv_room (Nat.le_of_ble_eq_true rfl)) dJ9_charAt_12 ⟨(bud hc mm4 hmc hms).1, (bud hc mm4 hmc hms).2⟩) hS (fun rr uu H locs hw hr hS => ?_)
    obtain rfl : u4 = uu := (congrArg Prod.snd hw).symm
    obtain rfl : r4 = rr := (congrArg Prod.fst hw).symm
    obtain ⟨g5, hF⟩ := gd_s hF
    have bz := bud_r hc hF hmc hms
    refine W.widen (k := mc) (n := ms) bz.1 bz.2 ?_
    exact W.zret (v := r4) hx hb hret (ch_of g5) (fun t ht hWm => ⟨⟨r4, u4, rfl, Option.some.inj hF, h_end hGr hr hS ht hWm⟩, hS.F ht⟩) hS.2.2 dJ9_charAt_15

def GJ7_init (h : Hp) (a0 : Nat) (p1 : Int32) : Option (Int32 × Hp) := if (1 : Int32) = 0 then none else nA h 1 p1 (fun a2_ h2 => pV h2 a0 12 0 (.ref a2_) (fun h3 => pV h3 a0 12 1 (.int 0) (fun h4 => some (0, h4))))
theorem moJ7_init (h : Hp) (a0 : Nat) (p1 : Int32) : Mo h (GJ7_init h a0 p1) := by
  unfold GJ7_init
  exact mo_ite (mo_no) (mo_nA hle_rf (fun a2_ h2 m2 => mo_pV m2 (fun h3 m3 => mo_pV m3 (fun h4 m4 => mo_ret m4))))
set_option maxHeartbeats 4000000 in
set_option maxRecDepth 100000 in
theorem mgJ7_init (l : Launch) (D : HD) (A : Nat → Prop) (h : Hp) (a0 : Nat) (p1 : Int32) (out : Int32 × Hp) (hF : GJ7_init h a0 p1 = some out) (mc ms : Nat) (hmc : hCc out.2 = hCc h + mc) (hms : hSl out.2 = hSl h + ms) : Met l yJ7_init (ws_ yJ7_init cJ7_init 2 none) ({ frames := 1, cells := mc, slots := ms, locals := 20 }) (va_Pc [.ref a0, .int p1] (hW D A h)) (va_Qv (fun u => (0, u) = out) (hW D A) A) mc ms A := by
  refine va_MetF (cc := cJ7_init) (maxL := 2) (ret := none) (by decide +kernel) rfl ?_
  intro p e s m args below meth c s₁ B hml hv
  obtain ⟨rfl, hr, hGr⟩ := hv
  have hx := B.exec
  have hb := B.bytes
  have hret := B.returns
  have hts := atoms_spec (ws := (ws_ yJ7_init cJ7_init 2 none)) B.pre
  have hts : ∀ w ∈ lw_all, w.before _ s = true := fun w h => hts w (List.mem_cons_of_mem _ h)
  have hown : s.vm.findClass RJ7 = some m.cls := findClass_of_methodNamed B.named
  have hlocks := B.notSynchronized
  have hin : meth.name = "<init>" := (name_of_methodNamed B.named B.method).1
  have hS : va_S A s.heap s.heap [] := va_S.rf
  have hc : cst h 0 0 h := cst_0
  have hl := lv_entry ([.ref a0, .int p1]) (n := 2) (Nat.le_of_ble_eq_true rfl)
  rw [lg_entry_eq]
  generalize (lg_sl ([.ref a0, .int p1]) ++ List.replicate (2 - (lg_sl ([.ref a0, .int p1])).length) Slot.unset).toArray = ls at hl ⊢
  have hl : lv_has ls 2 [(0, .ref a0), (1, .int p1)] := hl
  unfold GJ7_init at hF
  refine lv_aload_n hx hb dJ7_init_0 rfl (lv_at hl 0 rfl) ?_
  refine W.objInit hx hb hown (hts _ q269) (hts _ q149) (hts _ q150) rfl (by rw [hml]; exact hl.1) rfl dJ7_init_1 (Nat.le_of_ble_eq_true rfl) (Nat.le_of_ble_eq_true rfl) ?_
  refine W.eq (g2 := F0 m 4 ls []) rfl ?_
  refine va_gets hx hb hGr.cs hS hown (hts _ q270) (fun _ h9 => h9) dJ7_init_4 ?_
  refine lv_if_eq (tgt := 25) hx hb dJ7_init_7 (by decide) (fun c1 => ?_) (fun c1 => ?_)
  · replace hF := it_t c1 hF
    exact nomatch hF
  · replace hF := it_f c1 hF
    refine lv_aload_n hx hb dJ7_init_10 rfl (lv_at hl 0 rfl) ?_
    refine lv_iload_n hx hb dJ7_init_11 rfl (lv_at hl 1 rfl) ?_
    obtain ⟨a2_, h2, ea2, eh2, g2, hF⟩ := nA_s hF
    have mm2 : hle h2 out.2 := (show Mo h2 _ from mo_pV hle_rf (fun h3 m3 => mo_pV m3 (fun h4 m4 => mo_ret m4))) _ hF
    replace hc := cst_new hc eh2
    refine h_newB hx hb (hts _ q293) hGr hr hS g2 (bud hc mm2 hmc hms).1 (bud hc mm2 hmc hms).2 dJ7_init_12 (fun H hr hS => ?_)
    rw [← eh2] at hr
    rw [← ea2]
    obtain ⟨fs3, e3, k3, lo3, hF⟩ := pV_s hF
    obtain ⟨h3, eh3⟩ : ∃ z, z = hPut h2 a0 (.inr (12, fs3.set 0 (.ref a2_))) := ⟨_, rfl⟩
    rw [← eh3] at hF
    refine h_put (C := RJ8) (T := TJ8) (N := 4) hx hb hts in_J8 tyJ8 tyJ8_ok nmJ8 hown hGr hr hS e3 (by decide) rfl 0 (by decide) (hts _ q279) (fun _ h9 => h9) rfl (tyJ8_ok 0 (by decide)) rfl rfl k3 lo3 dJ7_init_14 (fun H locs hr hS => ?_)
    rw [← eh3] at hr
    replace hc := cst_put hc eh3
    refine lv_aload_n hx hb dJ7_init_17 rfl (lv_at hl 0 rfl) ?_
    refine lv_iconst (v := 0) hx hb dJ7_init_18 (by decide) ?_
    obtain ⟨fs4, e4, k4, lo4, hF⟩ := pV_s hF
    obtain ⟨h4, eh4⟩ : ∃ z, z = hPut h3 a0 (.inr (12, fs4.set 1 (.int 0))) := ⟨_, rfl⟩
    rw [← eh4] at hF
    refine h_put (C := RJ8) (T := TJ8) (N := 4) hx hb hts in_J8 tyJ8 tyJ8_ok nmJ8 hown hGr hr hS e4 (by decide) rfl 1 (by decide) (hts _ q280) (fun _ h9 => h9) rfl (tyJ8_ok 1 (by decide)) rfl rfl k4 lo4 dJ7_init_19 (fun H locs hr hS => ?_)
    rw [← eh4] at hr
    replace hc := cst_put hc eh4
    refine lv_goto (tgt := 38) hx hb dJ7_init_22 (by decide) ?_
    have bz := bud_r hc hF hmc hms
    refine W.widen (k := mc) (n := ms) bz.1 bz.2 ?_
    exact W.vret hx hb hret (fun t ht hWm => ⟨⟨h4, rfl, Option.some.inj hF, h_end hGr hr hS ht hWm⟩, hS.F ht⟩) hS.2.2 dJ7_init_38

def GJ7_isLatin1 (h : Hp) (a0 : Nat) : Option (Int32 × Hp) := if (1 : Int32) = 0 then some ((0 : Int32), h) else gI h a0 12 1 (fun x2_ => if x2_ = 0 then some ((1 : Int32), h) else some ((0 : Int32), h))
theorem moJ7_isLatin1 (h : Hp) (a0 : Nat) : Mo h (GJ7_isLatin1 h a0) := by
  unfold GJ7_isLatin1
  exact mo_ite (mo_ret hle_rf) (mo_gI (fun x2_ => mo_ite (mo_ret hle_rf) (mo_ret hle_rf)))
set_option maxHeartbeats 4000000 in
set_option maxRecDepth 100000 in
theorem mgJ7_isLatin1 (l : Launch) (D : HD) (A : Nat → Prop) (h : Hp) (a0 : Nat) (out : Int32 × Hp) (hF : GJ7_isLatin1 h a0 = some out) (mc ms : Nat) (hmc : hCc out.2 = hCc h + mc) (hms : hSl out.2 = hSl h + ms) : Met l yJ7_isLatin1 (ws_ yJ7_isLatin1 cJ7_isLatin1 1 (some .boolean)) ({ frames := 0, cells := mc, slots := ms, locals := 0 }) (va_Pc [.ref a0] (hW D A h)) (va_Qi (fun r u => (r, u) = out) (hW D A) A) mc ms A := by
  refine va_MetF (cc := cJ7_isLatin1) (maxL := 1) (ret := (some .boolean)) (by decide +kernel) rfl ?_
  intro p e s m args below meth c s₁ B hml hv
  obtain ⟨rfl, hr, hGr⟩ := hv
  have hx := B.exec
  have hb := B.bytes
  have hret := B.returns
  have hts := atoms_spec (ws := (ws_ yJ7_isLatin1 cJ7_isLatin1 1 (some .boolean))) B.pre
  have hts : ∀ w ∈ lw_all, w.before _ s = true := fun w h => hts w (List.mem_cons_of_mem _ h)
  have hown : s.vm.findClass RJ7 = some m.cls := findClass_of_methodNamed B.named
  have hlocks := B.notSynchronized
  have hS : va_S A s.heap s.heap [] := va_S.rf
  have hc : cst h 0 0 h := cst_0
  have hl := lv_entry ([.ref a0]) (n := 1) (Nat.le_of_ble_eq_true rfl)
  rw [lg_entry_eq]
  generalize (lg_sl ([.ref a0]) ++ List.replicate (1 - (lg_sl ([.ref a0])).length) Slot.unset).toArray = ls at hl ⊢
  have hl : lv_has ls 1 [(0, .ref a0)] := hl
  unfold GJ7_isLatin1 at hF
  refine va_gets hx hb hGr.cs hS hown (hts _ q270) (fun _ h9 => h9) dJ7_isLatin1_0 ?_
  refine lv_if_eq (tgt := 17) hx hb dJ7_isLatin1_3 (by decide) (fun c1 => ?_) (fun c1 => ?_)
  · replace hF := it_t c1 hF
    refine lv_iconst (v := 0) hx hb dJ7_isLatin1_17 (by decide) ?_
    have bz := bud_r hc hF hmc hms
    refine W.widen (k := mc) (n := ms) bz.1 bz.2 ?_
    exact W.zret (v := (0 : Int32)) hx hb hret rfl (fun t ht hWm => ⟨⟨(0 : Int32), h, rfl, Option.some.inj hF, h_end hGr hr hS ht hWm⟩, hS.F ht⟩) hS.2.2 dJ7_isLatin1_18
  · replace hF := it_f c1 hF
    refine lv_aload_n hx hb dJ7_isLatin1_6 rfl (lv_at hl 0 rfl) ?_
    obtain ⟨fs2, x2_, e2, f2, hF⟩ := gI_s hF
    refine h_get (C := RJ8) (T := TJ8) (N := 4) hx hb hts in_J8 hown hGr hr e2 (by decide) rfl 1 (by decide) (hts _ q280) (fun _ h9 => h9) f2 dJ7_isLatin1_7 ?_
    refine lv_if_ne (tgt := 17) hx hb dJ7_isLatin1_10 (by decide) (fun c3 => ?_) (fun c3 => ?_)
    · replace hF := it_f c3 hF
      refine lv_iconst (v := 0) hx hb dJ7_isLatin1_17 (by decide) ?_
      have bz := bud_r hc hF hmc hms
      refine W.widen (k := mc) (n := ms) bz.1 bz.2 ?_
      exact W.zret (v := (0 : Int32)) hx hb hret rfl (fun t ht hWm => ⟨⟨(0 : Int32), h, rfl, Option.some.inj hF, h_end hGr hr hS ht hWm⟩, hS.F ht⟩) hS.2.2 dJ7_isLatin1_18
    · replace hF := it_t c3 hF
      refine lv_iconst (v := 1) hx hb dJ7_isLatin1_13 (by decide) ?_
      refine lv_goto (tgt := 18) hx hb dJ7_isLatin1_14 (by decide) ?_
      have bz := bud_r hc hF hmc hms
      refine W.widen (k := mc) (n := ms) bz.1 bz.2 ?_
      exact W.zret (v := (1 : Int32)) hx hb hret rfl (fun t ht hWm => ⟨⟨(1 : Int32), h, rfl, Option.some.inj hF, h_end hGr hr hS ht hWm⟩, hS.F ht⟩) hS.2.2 dJ7_isLatin1_18

def GJ7_newCapacity (h : Hp) (a0 : Nat) (p1 : Int32) : Option (Int32 × Hp) := gQ h a0 12 0 (fun x1_ => aL h x1_ (fun x2_ => gI h a0 12 1 (fun x3_ => gI h a0 12 1 (fun x4_ => bnd (GJ11_newLength h x2_ ((p1 <<< (x3_ &&& 31)) - x2_) (x2_ + (2 <<< (x4_ &&& 31)))) (fun r5 u5 => if r5 = (2147483647 : Int32) then none else gI u5 a0 12 1 (fun x7_ => some ((r5 >>> (x7_ &&& 31)), u5)))))))
theorem moJ7_newCapacity (h : Hp) (a0 : Nat) (p1 : Int32) : Mo h (GJ7_newCapacity h a0 p1) := by
  unfold GJ7_newCapacity
  exact mo_gQ (fun x1_ => mo_aL (fun x2_ => mo_gI (fun x3_ => mo_gI (fun x4_ => mo_bnd (moJ11_newLength h x2_ ((p1 <<< (x3_ &&& 31)) - x2_) (x2_ + (2 <<< (x4_ &&& 31)))) hle_rf (fun r5 u5 m5 => mo_ite (mo_no) (mo_gI (fun x7_ => mo_ret m5)))))))
set_option maxHeartbeats 4000000 in
set_option maxRecDepth 100000 in
theorem mgJ7_newCapacity (l : Launch) (D : HD) (A : Nat → Prop) (h : Hp) (a0 : Nat) (p1 : Int32) (out : Int32 × Hp) (hF : GJ7_newCapacity h a0 p1 = some out) (mc ms : Nat) (hmc : hCc out.2 = hCc h + mc) (hms : hSl out.2 = hSl h + ms) : Met l yJ7_newCapacity (ws_ yJ7_newCapacity cJ7_newCapacity 6 (some .int)) ({ frames := 2, cells := mc, slots := ms, locals := 47 }) (va_Pc [.ref a0, .int p1] (hW D A h)) (va_Qi (fun r u => (r, u) = out) (hW D A) A) mc ms A := by
  refine va_MetF (cc := cJ7_newCapacity) (maxL := 6) (ret := (some .int)) (by decide +kernel) rfl ?_
  intro p e s m args below meth c s₁ B hml hv
  obtain ⟨rfl, hr, hGr⟩ := hv
  have hx := B.exec
  have hb := B.bytes
  have hret := B.returns
  have hts := atoms_spec (ws := (ws_ yJ7_newCapacity cJ7_newCapacity 6 (some .int))) B.pre
  have hts : ∀ w ∈ lw_all, w.before _ s = true := fun w h => hts w (List.mem_cons_of_mem _ h)
  have hown : s.vm.findClass RJ7 = some m.cls := findClass_of_methodNamed B.named
  have hlocks := B.notSynchronized
  have hS : va_S A s.heap s.heap [] := va_S.rf
  have hc : cst h 0 0 h := cst_0
  have hl := lv_entry ([.ref a0, .int p1]) (n := 6) (Nat.le_of_ble_eq_true rfl)
  rw [lg_entry_eq]
  generalize (lg_sl ([.ref a0, .int p1]) ++ List.replicate (6 - (lg_sl ([.ref a0, .int p1])).length) Slot.unset).toArray = ls at hl ⊢
  have hl : lv_has ls 6 [(0, .ref a0), (1, .int p1)] := hl
  unfold GJ7_newCapacity at hF
  refine lv_aload_n hx hb dJ7_newCapacity_0 rfl (lv_at hl 0 rfl) ?_
  obtain ⟨fs1, x1_, e1, f1, hF⟩ := gQ_s hF
  refine h_get (C := RJ8) (T := TJ8) (N := 4) hx hb hts in_J8 hown hGr hr e1 (by decide) rfl 0 (by decide) (hts _ q279) (fun _ h9 => h9) f1 dJ7_newCapacity_1 ?_
  obtain ⟨k2, y2, e2, g2, hF⟩ := aL_s hF
  obtain ⟨x2_, ex2⟩ : ∃ z, z = Int32.ofNat y2.1 := ⟨_, rfl⟩
  rw [← ex2] at hF
  refine h_alen hx hb hGr hr e2 g2 dJ7_newCapacity_4 ?_
  rw [← ex2]
  refine lv_istore_n (lv' := [(2, .int x2_), (0, .ref a0), (1, .int p1)]) hx hb dJ7_newCapacity_5 rfl hl (by decide) rfl (fun ls hl => ?_)
  refine lv_iload_n hx hb dJ7_newCapacity_6 rfl (lv_at hl 2 rfl) ?_
  refine lv_aload_n hx hb dJ7_newCapacity_7 rfl (lv_at hl 1 rfl) ?_
  obtain ⟨fs3, x3_, e3, f3, hF⟩ := gI_s hF
  refine h_get (C := RJ8) (T := TJ8) (N := 4) hx hb hts in_J8 hown hGr hr e3 (by decide) rfl 1 (by decide) (hts _ q280) (fun _ h9 => h9) f3 dJ7_newCapacity_8 ?_
  refine lv_ishl hx hb dJ7_newCapacity_11 ?_
  refine lv_istore_n (lv' := [(3, .int (p1 <<< (x3_ &&& 31))), (2, .int x2_), (0, .ref a0), (1, .int p1)]) hx hb dJ7_newCapacity_12 rfl hl (by decide) rfl (fun ls hl => ?_)
  refine lv_iload_n hx hb dJ7_newCapacity_13 rfl (lv_at hl 0 rfl) ?_
  refine lv_iload_n hx hb dJ7_newCapacity_14 rfl (lv_at hl 1 rfl) ?_
  refine lv_isub hx hb dJ7_newCapacity_15 ?_
  refine lv_istore (lv' := [(4, .int ((p1 <<< (x3_ &&& 31)) - x2_)), (3, .int (p1 <<< (x3_ &&& 31))), (2, .int x2_), (0, .ref a0), (1, .int p1)]) hx hb dJ7_newCapacity_16 hl (by decide) rfl (fun ls hl => ?_)
  refine lv_iload_n hx hb dJ7_newCapacity_18 rfl (lv_at hl 2 rfl) ?_
  refine lv_iload hx hb dJ7_newCapacity_19 (lv_at hl 0 rfl) ?_
  refine lv_iload_n hx hb dJ7_newCapacity_21 rfl (lv_at hl 2 rfl) ?_
  refine lv_iconst (v := 2) hx hb dJ7_newCapacity_22 (by decide) ?_
  refine lv_aload_n hx hb dJ7_newCapacity_23 rfl (lv_at hl 3 rfl) ?_
  obtain ⟨fs4, x4_, e4, f4, hF⟩ := gI_s hF
  refine h_get (C := RJ8) (T := TJ8) (N := 4) hx hb hts in_J8 hown hGr hr e4 (by decide) rfl 1 (by decide) (hts _ q280) (fun _ h9 => h9) f4 dJ7_newCapacity_24 ?_
  refine lv_ishl hx hb dJ7_newCapacity_27 ?_
  refine lv_iadd hx hb dJ7_newCapacity_28 ?_
  obtain ⟨r5, u5, e5, hF⟩ := bnd_s hF
  have mm5 : hle u5 out.2 := (show Mo u5 _ from mo_ite (mo_no) (mo_gI (fun x7_ => mo_ret hle_rf))) _ hF
  obtain ⟨mc5, ms5, hmc5, hms5⟩ := up_of (moJ11_newLength h x2_ ((p1 <<< (x3_ &&& 31)) - x2_) (x2_ + (2 <<< (x4_ &&& 31))) _ e5)
  replace hc := cst_call hc hmc5 hms5
  refine h_calli (va_runS (As := [.int x2_, .int ((p1 <<< (x3_ &&& 31)) - x2_), .int (x2_ + (2 <<< (x4_ &&& 31)))]) (rest := []) ⟨hx, hb, hml, hown, hts⟩ (mgJ11_newLength l D A h x2_ ((p1 <<< (x3_ &&& 31)) - x2_) (x2_ + (2 <<< (x4_ &&& 31))) _ e5 mc5 ms5 hmc5 hms5) (va_cwS 3 hts (lw_S q314 q315 q115 q316) rfl rfl rfl (by decide +kernel) ⟨Nat.le_of_ble_eq_true rfl, Nat.le_of_ble_eq_true rfl⟩) (h_preS hGr hr hS _) rfl rfl hl.1 rfl (lv_room (Nat.le_of_ble_eq_true rfl)) dJ7_newCapacity_29 ⟨(bud hc mm5 hmc hms).1, (bud hc mm5 hmc hms).2⟩) hS (fun rr uu H locs hw hr hS => ?_)
  obtain rfl : u5 = uu := (congrArg Prod.snd hw).symm
  obtain rfl : r5 = rr := (congrArg Prod.fst hw).symm
  refine lv_istore (lv' := [(5, .int r5), (4, .int ((p1 <<< (x3_ &&& 31)) - x2_)), (3, .int (p1 <<< (x3_ &&& 31))), (2, .int x2_), (0, .ref a0), (1, .int p1)]) hx hb dJ7_newCapacity_32 hl (by decide) rfl (fun ls hl => ?_)
  refine lv_iload hx hb dJ7_newCapacity_34 (lv_at hl 0 rfl) ?_
  refine lv_ldc hx hb hown (hts _ q324) dJ7_newCapacity_36 ?_
  refine lv_icmp_ne (tgt := 51) hx hb dJ7_newCapacity_38 (by decide) (fun c6 => ?_) (fun c6 => ?_)
  · replace hF := it_f c6 hF
    refine lv_iload hx hb dJ7_newCapacity_51 (lv_at hl 0 rfl) ?_
    refine lv_aload_n hx hb dJ7_newCapacity_53 rfl (lv_at hl 4 rfl) ?_
    obtain ⟨fs7, x7_, e7, f7, hF⟩ := gI_s hF
    refine h_get (C := RJ8) (T := TJ8) (N := 4) hx hb hts in_J8 hown hGr hr e7 (by decide) rfl 1 (by decide) (hts _ q280) (fun _ h9 => h9) f7 dJ7_newCapacity_54 ?_
    refine lv_ishr hx hb dJ7_newCapacity_57 ?_
    have bz := bud_r hc hF hmc hms
    refine W.widen (k := mc) (n := ms) bz.1 bz.2 ?_
    exact W.iret (v := (r5 >>> (x7_ &&& 31))) hx hb hret (fun t ht hWm => ⟨⟨(r5 >>> (x7_ &&& 31)), u5, rfl, Option.some.inj hF, h_end hGr hr hS ht hWm⟩, hS.F ht⟩) hS.2.2 dJ7_newCapacity_58
  · replace hF := it_t c6 hF
    exact nomatch hF

def GJ7_ensureCapacityInternal (h : Hp) (a0 : Nat) (p1 : Int32) : Option (Int32 × Hp) := gQ h a0 12 0 (fun x1_ => aL h x1_ (fun x2_ => gI h a0 12 1 (fun x3_ => if (p1 - (x2_ >>> (x3_ &&& 31))) ≤ 0 then some (0, h) else gQ h a0 12 0 (fun x5_ => gC h a0 12 (bnd (GJ7_newCapacity h a0 p1) (fun r6 u6 => gI u6 a0 12 1 (fun x7_ => bnd (GJ13_copyOf u6 x5_ (r6 <<< (x7_ &&& 31))) (fun r8 u8 => pV u8 a0 12 0 (.ref r8) (fun h9 => some (0, h9))))))))))
theorem moJ7_ensureCapacityInternal (h : Hp) (a0 : Nat) (p1 : Int32) : Mo h (GJ7_ensureCapacityInternal h a0 p1) := by
  unfold GJ7_ensureCapacityInternal
  exact mo_gQ (fun x1_ => mo_aL (fun x2_ => mo_gI (fun x3_ => mo_ite (mo_ret hle_rf) (mo_gQ (fun x5_ => mo_gC (mo_bnd (moJ7_newCapacity h a0 p1) hle_rf (fun r6 u6 m6 => mo_gI (fun x7_ => mo_bnd (moJ13_copyOf u6 x5_ (r6 <<< (x7_ &&& 31))) m6 (fun r8 u8 m8 => mo_pV m8 (fun h9 m9 => mo_ret m9))))))))))
set_option maxHeartbeats 4000000 in
set_option maxRecDepth 100000 in
theorem mgJ7_ensureCapacityInternal (l : Launch) (D : HD) (A : Nat → Prop) (h : Hp) (a0 : Nat) (p1 : Int32) (out : Int32 × Hp) (hF : GJ7_ensureCapacityInternal h a0 p1 = some out) (mc ms : Nat) (hmc : hCc out.2 = hCc h + mc) (hms : hSl out.2 = hSl h + ms) : Met l yJ7_ensureCapacityInternal (ws_ yJ7_ensureCapacityInternal cJ7_ensureCapacityInternal 3 none) ({ frames := 3, cells := mc, slots := ms, locals := 102 }) (va_Pc [.ref a0, .int p1] (hW D A h)) (va_Qv (fun u => (0, u) = out) (hW D A) A) mc ms A := by
  refine va_MetF (cc := cJ7_ensureCapacityInternal) (maxL := 3) (ret := none) (by decide +kernel) rfl ?_
  intro p e s m args below meth c s₁ B hml hv
  obtain ⟨rfl, hr, hGr⟩ := hv
  have hx := B.exec
  have hb := B.bytes
  have hret := B.returns
  have hts := atoms_spec (ws := (ws_ yJ7_ensureCapacityInternal cJ7_ensureCapacityInternal 3 none)) B.pre
  have hts : ∀ w ∈ lw_all, w.before _ s = true := fun w h => hts w (List.mem_cons_of_mem _ h)
  have hown : s.vm.findClass RJ7 = some m.cls := findClass_of_methodNamed B.named
  have hlocks := B.notSynchronized
  have hS : va_S A s.heap s.heap [] := va_S.rf
  have hc : cst h 0 0 h := cst_0
  have hl := lv_entry ([.ref a0, .int p1]) (n := 3) (Nat.le_of_ble_eq_true rfl)
  rw [lg_entry_eq]
  generalize (lg_sl ([.ref a0, .int p1]) ++ List.replicate (3 - (lg_sl ([.ref a0, .int p1])).length) Slot.unset).toArray = ls at hl ⊢
  have hl : lv_has ls 3 [(0, .ref a0), (1, .int p1)] := hl
  unfold GJ7_ensureCapacityInternal at hF
  refine lv_aload_n hx hb dJ7_ensureCapacityInternal_0 rfl (lv_at hl 0 rfl) ?_
  obtain ⟨fs1, x1_, e1, f1, hF⟩ := gQ_s hF
  refine h_get (C := RJ8) (T := TJ8) (N := 4) hx hb hts in_J8 hown hGr hr e1 (by decide) rfl 0 (by decide) (hts _ q279) (fun _ h9 => h9) f1 dJ7_ensureCapacityInternal_1 ?_
  obtain ⟨k2, y2, e2, g2, hF⟩ := aL_s hF
  obtain ⟨x2_, ex2⟩ : ∃ z, z = Int32.ofNat y2.1 := ⟨_, rfl⟩
  rw [← ex2] at hF
  refine h_alen hx hb hGr hr e2 g2 dJ7_ensureCapacityInternal_4 ?_
  rw [← ex2]
  refine lv_aload_n hx hb dJ7_ensureCapacityInternal_5 rfl (lv_at hl 0 rfl) ?_
  obtain ⟨fs3, x3_, e3, f3, hF⟩ := gI_s hF
  refine h_get (C := RJ8) (T := TJ8) (N := 4) hx hb hts in_J8 hown hGr hr e3 (by decide) rfl 1 (by decide) (hts _ q280) (fun _ h9 => h9) f3 dJ7_ensureCapacityInternal_6 ?_
  refine lv_ishr hx hb dJ7_ensureCapacityInternal_9 ?_
  refine lv_istore_n (lv' := [(2, .int (x2_ >>> (x3_ &&& 31))), (0, .ref a0), (1, .int p1)]) hx hb dJ7_ensureCapacityInternal_10 rfl hl (by decide) rfl (fun ls hl => ?_)
  refine lv_iload_n hx hb dJ7_ensureCapacityInternal_11 rfl (lv_at hl 2 rfl) ?_
  refine lv_iload_n hx hb dJ7_ensureCapacityInternal_12 rfl (lv_at hl 0 rfl) ?_
  refine lv_isub hx hb dJ7_ensureCapacityInternal_13 ?_
  refine lv_if_le (tgt := 38) hx hb dJ7_ensureCapacityInternal_14 (by decide) (fun c4 => ?_) (fun c4 => ?_)
  · replace hF := it_t c4 hF
    have bz := bud_r hc hF hmc hms
    refine W.widen (k := mc) (n := ms) bz.1 bz.2 ?_
    exact W.vret hx hb hret (fun t ht hWm => ⟨⟨h, rfl, Option.some.inj hF, h_end hGr hr hS ht hWm⟩, hS.F ht⟩) hS.2.2 dJ7_ensureCapacityInternal_38
  · replace hF := it_f c4 hF
    refine lv_aload_n hx hb dJ7_ensureCapacityInternal_17 rfl (lv_at hl 1 rfl) ?_
    refine lv_aload_n hx hb dJ7_ensureCapacityInternal_18 rfl (lv_at hl 1 rfl) ?_
    obtain ⟨fs5, x5_, e5, f5, hF⟩ := gQ_s hF
    refine h_get (C := RJ8) (T := TJ8) (N := 4) hx hb hts in_J8 hown hGr hr e5 (by decide) rfl 0 (by decide) (hts _ q279) (fun _ h9 => h9) f5 dJ7_ensureCapacityInternal_19 ?_
    refine lv_aload_n hx hb dJ7_ensureCapacityInternal_22 rfl (lv_at hl 1 rfl) ?_
    refine lv_iload_n hx hb dJ7_ensureCapacityInternal_23 rfl (lv_at hl 2 rfl) ?_
    obtain ⟨fc6, ec6, hF⟩ := gC_s hF
    obtain ⟨r6, u6, e6, hF⟩ := bnd_s hF
    have mm6 : hle u6 out.2 := (show Mo u6 _ from mo_gI (fun x7_ => mo_bnd (moJ13_copyOf u6 x5_ (r6 <<< (x7_ &&& 31))) hle_rf (fun r8 u8 m8 => mo_pV m8 (fun h9 m9 => mo_ret m9)))) _ hF
    obtain ⟨mc6, ms6, hmc6, hms6⟩ := up_of (moJ7_newCapacity h a0 p1 _ e6)
    replace hc := cst_call hc hmc6 hms6
    refine h_calli (va_runV (As := [.int p1]) (rest := [.ref x5_, .ref a0]) ⟨hx, hb, hml, hown, hts⟩ (mgJ7_newCapacity l D A h a0 p1 _ e6 mc6 ms6 hmc6 hms6) (h_cwP 1 hts (lw_meth q313) rfl rfl rfl (hts _ q310) (hts _ q111) (hts _ q312) (h_selp (hGr.nw q311 rfl) (hts _ q312) (by decide) (hGr.K.1 12 _ rfl).2.1 (hts _ q344) rfl) (by decide +kernel) ⟨Nat.le_of_ble_eq_true rfl, Nat.le_of_ble_eq_true rfl⟩) (h_preV hGr hr hS ec6 (by decide) (q := (RJ8, TJ8, 4)) rfl _) rfl rfl hl.1 rfl (lv_room (Nat.le_of_ble_eq_true rfl)) dJ7_ensureCapacityInternal_24 ⟨(bud hc mm6 hmc hms).1, (bud hc mm6 hmc hms).2⟩) hS (fun rr uu H locs hw hr hS => ?_)
    obtain rfl : u6 = uu := (congrArg Prod.snd hw).symm
    obtain rfl : r6 = rr := (congrArg Prod.fst hw).symm
    refine lv_aload_n hx hb dJ7_ensureCapacityInternal_27 rfl (lv_at hl 1 rfl) ?_
    obtain ⟨fs7, x7_, e7, f7, hF⟩ := gI_s hF
    refine h_get (C := RJ8) (T := TJ8) (N := 4) hx hb hts in_J8 hown hGr hr e7 (by decide) rfl 1 (by decide) (hts _ q280) (fun _ h9 => h9) f7 dJ7_ensureCapacityInternal_28 ?_
    refine lv_ishl hx hb dJ7_ensureCapacityInternal_31 ?_
    obtain ⟨r8, u8, e8, hF⟩ := bnd_s hF
    have mm8 : hle u8 out.2 := (show Mo u8 _ from mo_pV hle_rf (fun h9 m9 => mo_ret m9)) _ hF
    obtain ⟨mc8, ms8, hmc8, hms8⟩ := up_of (moJ13_copyOf u6 x5_ (r6 <<< (x7_ &&& 31)) _ e8)
    replace hc := cst_call hc hmc8 hms8
    refine h_callr (va_runS (As := [.ref x5_, .int (r6 <<< (x7_ &&& 31))]) (rest := [.ref a0]) ⟨hx, hb, hml, hown, hts⟩ (mgJ13_copyOf l D A u6 x5_ (r6 <<< (x7_ &&& 31)) _ e8 mc8 ms8 hmc8 hms8) (va_cwS 2 hts (lw_S q325 q326 q117 q327) rfl rfl rfl (by decide +kernel) ⟨Nat.le_of_ble_eq_true rfl, Nat.le_of_ble_eq_true rfl⟩) (h_preS hGr hr hS _) rfl rfl hl.1 rfl (lv_room (Nat.le_of_ble_eq_true rfl)) dJ7_ensureCapacityInternal_32 ⟨(bud hc mm8 hmc hms).1, (bud hc mm8 hmc hms).2⟩) hS (fun rr uu H locs hw hr hS => ?_)
    obtain rfl : u8 = uu := (congrArg Prod.snd hw).symm
    obtain rfl : r8 = rr := (congrArg Prod.fst hw).symm
    obtain ⟨fs9, e9, k9, lo9, hF⟩ := pV_s hF
    obtain ⟨h9, eh9⟩ : ∃ z, z = hPut u8 a0 (.inr (12, fs9.set 0 (.ref r8))) := ⟨_, rfl⟩
    rw [← eh9] at hF
    refine h_put (C := RJ8) (T := TJ8) (N := 4) hx hb hts in_J8 tyJ8 tyJ8_ok nmJ8 hown hGr hr hS e9 (by decide) rfl 0 (by decide) (hts _ q279) (fun _ h9 => h9) rfl (tyJ8_ok 0 (by decide)) rfl rfl k9 lo9 dJ7_ensureCapacityInternal_35 (fun H locs hr hS => ?_)
    rw [← eh9] at hr
    replace hc := cst_put hc eh9
    have bz := bud_r hc hF hmc hms
    refine W.widen (k := mc) (n := ms) bz.1 bz.2 ?_
    exact W.vret hx hb hret (fun t ht hWm => ⟨⟨h9, rfl, Option.some.inj hF, h_end hGr hr hS ht hWm⟩, hS.F ht⟩) hS.2.2 dJ7_ensureCapacityInternal_38

def GJ15_canEncode (h : Hp) (p0 : Int32) : Option (Int32 × Hp) := if 255 < p0 then some ((0 : Int32), h) else some ((1 : Int32), h)
theorem moJ15_canEncode (h : Hp) (p0 : Int32) : Mo h (GJ15_canEncode h p0) := by
  unfold GJ15_canEncode
  exact mo_ite (mo_ret hle_rf) (mo_ret hle_rf)
set_option maxHeartbeats 4000000 in
set_option maxRecDepth 100000 in
theorem mgJ15_canEncode (l : Launch) (D : HD) (A : Nat → Prop) (h : Hp) (p0 : Int32) (out : Int32 × Hp) (hF : GJ15_canEncode h p0 = some out) (mc ms : Nat) (hmc : hCc out.2 = hCc h + mc) (hms : hSl out.2 = hSl h + ms) : Met l yJ15_canEncode (ws_ yJ15_canEncode cJ15_canEncode 1 (some .boolean)) ({ frames := 0, cells := mc, slots := ms, locals := 0 }) (va_Pc [.int p0] (hW D A h)) (va_Qi (fun r u => (r, u) = out) (hW D A) A) mc ms A := by
  refine va_MetF (cc := cJ15_canEncode) (maxL := 1) (ret := (some .boolean)) (by decide +kernel) rfl ?_
  intro p e s m args below meth c s₁ B hml hv
  obtain ⟨rfl, hr, hGr⟩ := hv
  have hx := B.exec
  have hb := B.bytes
  have hret := B.returns
  have hts := atoms_spec (ws := (ws_ yJ15_canEncode cJ15_canEncode 1 (some .boolean))) B.pre
  have hts : ∀ w ∈ lw_all, w.before _ s = true := fun w h => hts w (List.mem_cons_of_mem _ h)
  have hown : s.vm.findClass RJ15 = some m.cls := findClass_of_methodNamed B.named
  have hlocks := B.notSynchronized
  have hS : va_S A s.heap s.heap [] := va_S.rf
  have hc : cst h 0 0 h := cst_0
  have hl := lv_entry ([.int p0]) (n := 1) (Nat.le_of_ble_eq_true rfl)
  rw [lg_entry_eq]
  generalize (lg_sl ([.int p0]) ++ List.replicate (1 - (lg_sl ([.int p0])).length) Slot.unset).toArray = ls at hl ⊢
  have hl : lv_has ls 1 [(0, .int p0)] := hl
  unfold GJ15_canEncode at hF
  refine lv_iload_n hx hb dJ15_canEncode_0 rfl (lv_at hl 0 rfl) ?_
  refine lv_sipush (v := 255) hx hb dJ15_canEncode_1 (by decide) ?_
  refine lv_icmp_gt (tgt := 11) hx hb dJ15_canEncode_4 (by decide) (fun c1 => ?_) (fun c1 => ?_)
  · replace hF := it_t c1 hF
    refine lv_iconst (v := 0) hx hb dJ15_canEncode_11 (by decide) ?_
    have bz := bud_r hc hF hmc hms
    refine W.widen (k := mc) (n := ms) bz.1 bz.2 ?_
    exact W.zret (v := (0 : Int32)) hx hb hret rfl (fun t ht hWm => ⟨⟨(0 : Int32), h, rfl, Option.some.inj hF, h_end hGr hr hS ht hWm⟩, hS.F ht⟩) hS.2.2 dJ15_canEncode_12
  · replace hF := it_f c1 hF
    refine lv_iconst (v := 1) hx hb dJ15_canEncode_7 (by decide) ?_
    refine lv_goto (tgt := 12) hx hb dJ15_canEncode_8 (by decide) ?_
    have bz := bud_r hc hF hmc hms
    refine W.widen (k := mc) (n := ms) bz.1 bz.2 ?_
    exact W.zret (v := (1 : Int32)) hx hb hret rfl (fun t ht hWm => ⟨⟨(1 : Int32), h, rfl, Option.some.inj hF, h_end hGr hr hS ht hWm⟩, hS.F ht⟩) hS.2.2 dJ15_canEncode_12

def GJ7_append_3 (h : Hp) (a0 : Nat) (p1 : Int32) : Option (Nat × Hp) := gI h a0 12 3 (fun x1_ => gC h a0 12 (bnd (GJ7_ensureCapacityInternal h a0 (x1_ + 1)) (fun r2 u2 => gC u2 a0 12 (bnd (GJ7_isLatin1 u2 a0) (fun r3 u3 => if r3 = 0 then none else bnd (GJ15_canEncode u3 p1) (fun r5 u5 => if r5 = 0 then none else gQ u5 a0 12 0 (fun x7_ => gI u5 a0 12 3 (fun x8_ => pV u5 a0 12 3 (.int (x8_ + 1)) (fun h9 => sI h9 x7_ 1 x8_ (vp_nar .byte ((p1).toInt8.toInt32)) (fun h10 => some (a0, h10)))))))))))
theorem moJ7_append_3 (h : Hp) (a0 : Nat) (p1 : Int32) : Mo h (GJ7_append_3 h a0 p1) := by
  unfold GJ7_append_3
  exact mo_gI (fun x1_ => mo_gC (mo_bnd (moJ7_ensureCapacityInternal h a0 (x1_ + 1)) hle_rf (fun r2 u2 m2 => mo_gC (mo_bnd (moJ7_isLatin1 u2 a0) m2 (fun r3 u3 m3 => mo_ite (mo_no) (mo_bnd (moJ15_canEncode u3 p1) m3 (fun r5 u5 m5 => mo_ite (mo_no) (mo_gQ (fun x7_ => mo_gI (fun x8_ => mo_pV m5 (fun h9 m9 => mo_sI m9 (fun h10 m10 => mo_ret m10))))))))))))
set_option maxHeartbeats 4000000 in
set_option maxRecDepth 100000 in
theorem mgJ7_append_3 (l : Launch) (D : HD) (A : Nat → Prop) (h : Hp) (a0 : Nat) (p1 : Int32) (out : Nat × Hp) (hF : GJ7_append_3 h a0 p1 = some out) (mc ms : Nat) (hmc : hCc out.2 = hCc h + mc) (hms : hSl out.2 = hSl h + ms) : Met l yJ7_append_3 (ws_ yJ7_append_3 cJ7_append_3 2 (some (.object "java/lang/AbstractStringBuilder"))) ({ frames := 4, cells := mc, slots := ms, locals := 124 }) (va_Pc [.ref a0, .int p1] (hW D A h)) (va_Qr (fun _ : Hp => True) (fun u r t => (r, u) = out ∧ hW D A u t) A) mc ms A := by
  refine va_MetF (cc := cJ7_append_3) (maxL := 2) (ret := (some (.object "java/lang/AbstractStringBuilder"))) (by decide +kernel) rfl ?_
  intro p e s m args below meth c s₁ B hml hv
  obtain ⟨rfl, hr, hGr⟩ := hv
  have hx := B.exec
  have hb := B.bytes
  have hret := B.returns
  have hts := atoms_spec (ws := (ws_ yJ7_append_3 cJ7_append_3 2 (some (.object "java/lang/AbstractStringBuilder")))) B.pre
  have hts : ∀ w ∈ lw_all, w.before _ s = true := fun w h => hts w (List.mem_cons_of_mem _ h)
  have hown : s.vm.findClass RJ7 = some m.cls := findClass_of_methodNamed B.named
  have hlocks := B.notSynchronized
  have hS : va_S A s.heap s.heap [] := va_S.rf
  have hc : cst h 0 0 h := cst_0
  have hl := lv_entry ([.ref a0, .int p1]) (n := 2) (Nat.le_of_ble_eq_true rfl)
  rw [lg_entry_eq]
  generalize (lg_sl ([.ref a0, .int p1]) ++ List.replicate (2 - (lg_sl ([.ref a0, .int p1])).length) Slot.unset).toArray = ls at hl ⊢
  have hl : lv_has ls 2 [(0, .ref a0), (1, .int p1)] := hl
  unfold GJ7_append_3 at hF
  refine lv_aload_n hx hb dJ7_append_3_0 rfl (lv_at hl 0 rfl) ?_
  refine lv_aload_n hx hb dJ7_append_3_1 rfl (lv_at hl 0 rfl) ?_
  obtain ⟨fs1, x1_, e1, f1, hF⟩ := gI_s hF
  refine h_get (C := RJ8) (T := TJ8) (N := 4) hx hb hts in_J8 hown hGr hr e1 (by decide) rfl 3 (by decide) (hts _ q283) (fun _ h9 => h9) f1 dJ7_append_3_2 ?_
  refine lv_iconst (v := 1) hx hb dJ7_append_3_5 (by decide) ?_
  refine lv_iadd hx hb dJ7_append_3_6 ?_
  obtain ⟨fc2, ec2, hF⟩ := gC_s hF
  obtain ⟨r2, u2, e2, hF⟩ := bnd_s hF
  have mm2 : hle u2 out.2 := (show Mo u2 _ from mo_gC (mo_bnd (moJ7_isLatin1 u2 a0) hle_rf (fun r3 u3 m3 => mo_ite (mo_no) (mo_bnd (moJ15_canEncode u3 p1) m3 (fun r5 u5 m5 => mo_ite (mo_no) (mo_gQ (fun x7_ => mo_gI (fun x8_ => mo_pV m5 (fun h9 m9 => mo_sI m9 (fun h10 m10 => mo_ret m10)))))))))) _ hF
  obtain ⟨mc2, ms2, hmc2, hms2⟩ := up_of (moJ7_ensureCapacityInternal h a0 (x1_ + 1) _ e2)
  replace hc := cst_call hc hmc2 hms2
  refine h_callv (va_runV (As := [.int (x1_ + 1)]) (rest := []) ⟨hx, hb, hml, hown, hts⟩ (mgJ7_ensureCapacityInternal l D A h a0 (x1_ + 1) _ e2 mc2 ms2 hmc2 hms2) (h_cwP 1 hts (lw_meth q309) rfl rfl rfl (hts _ q306) (hts _ q111) (hts _ q308) (h_selp (hGr.nw q307 rfl) (hts _ q308) (by decide) (hGr.K.1 12 _ rfl).2.1 (hts _ q344) rfl) (by decide +kernel) ⟨Nat.le_of_ble_eq_true rfl, Nat.le_of_ble_eq_true rfl⟩) (h_preV hGr hr hS ec2 (by decide) (q := (RJ8, TJ8, 4)) rfl _) rfl rfl hl.1 rfl (lv_room (Nat.le_of_ble_eq_true rfl)) dJ7_append_3_7 ⟨(bud hc mm2 hmc hms).1, (bud hc mm2 hmc hms).2⟩) hS (fun uu H locs hw hr hS => ?_)
  obtain rfl : u2 = uu := (congrArg Prod.snd hw).symm
  refine lv_aload_n hx hb dJ7_append_3_10 rfl (lv_at hl 0 rfl) ?_
  obtain ⟨fc3, ec3, hF⟩ := gC_s hF
  obtain ⟨r3, u3, e3, hF⟩ := bnd_s hF
  have mm3 : hle u3 out.2 := (show Mo u3 _ from mo_ite (mo_no) (mo_bnd (moJ15_canEncode u3 p1) hle_rf (fun r5 u5 m5 => mo_ite (mo_no) (mo_gQ (fun x7_ => mo_gI (fun x8_ => mo_pV m5 (fun h9 m9 => mo_sI m9 (fun h10 m10 => mo_ret m10)))))))) _ hF
  obtain ⟨mc3, ms3, hmc3, hms3⟩ := up_of (moJ7_isLatin1 u2 a0 _ e3)
  replace hc := cst_call hc hmc3 hms3
  refine h_calli (va_runU (C := RJ8) (owner := "java/lang/AbstractStringBuilder") (x := ⟨"java/lang/AbstractStringBuilder", "isLatin1", "()Z"⟩) (As := []) (rest := []) ⟨hx, hb, hml, hown, hts⟩ (mgJ7_isLatin1 l D A u2 a0 _ e3 mc3 ms3 hmc3 hms3) (va_cwU 0 hts (lw_U q341 q343 q344 q342 q111 q345) rfl rfl rfl rfl (by decide +kernel) ⟨Nat.le_of_ble_eq_true rfl, Nat.le_of_ble_eq_true rfl⟩) (h_preV hGr hr hS ec3 (by decide) (q := (RJ8, TJ8, 4)) rfl _) rfl rfl hl.1 rfl (lv_room (Nat.le_of_ble_eq_true rfl)) dJ7_append_3_11 ⟨(bud hc mm3 hmc hms).1, (bud hc mm3 hmc hms).2⟩) hS (fun rr uu H locs hw hr hS => ?_)
  obtain rfl : u3 = uu := (congrArg Prod.snd hw).symm
  obtain rfl : r3 = rr := (congrArg Prod.fst hw).symm
  refine lv_if_eq (tgt := 45) hx hb dJ7_append_3_14 (by decide) (fun c4 => ?_) (fun c4 => ?_)
  · replace hF := it_t c4 hF
    exact nomatch hF
  · replace hF := it_f c4 hF
    refine lv_iload_n hx hb dJ7_append_3_17 rfl (lv_at hl 1 rfl) ?_
    obtain ⟨r5, u5, e5, hF⟩ := bnd_s hF
    have mm5 : hle u5 out.2 := (show Mo u5 _ from mo_ite (mo_no) (mo_gQ (fun x7_ => mo_gI (fun x8_ => mo_pV hle_rf (fun h9 m9 => mo_sI m9 (fun h10 m10 => mo_ret m10)))))) _ hF
    obtain ⟨mc5, ms5, hmc5, hms5⟩ := up_of (moJ15_canEncode u3 p1 _ e5)
    replace hc := cst_call hc hmc5 hms5
    refine h_calli (va_runS (As := [.int p1]) (rest := []) ⟨hx, hb, hml, hown, hts⟩ (mgJ15_canEncode l D A u3 p1 _ e5 mc5 ms5 hmc5 hms5) (va_cwS 1 hts (lw_S q1285 q1286 q120 q1287) rfl rfl rfl (by decide +kernel) ⟨Nat.le_of_ble_eq_true rfl, Nat.le_of_ble_eq_true rfl⟩) (h_preS hGr hr hS _) rfl rfl hl.1 rfl (lv_room (Nat.le_of_ble_eq_true rfl)) dJ7_append_3_18 ⟨(bud hc mm5 hmc hms).1, (bud hc mm5 hmc hms).2⟩) hS (fun rr uu H locs hw hr hS => ?_)
    obtain rfl : u5 = uu := (congrArg Prod.snd hw).symm
    obtain rfl : r5 = rr := (congrArg Prod.fst hw).symm
    refine lv_if_eq (tgt := 45) hx hb dJ7_append_3_21 (by decide) (fun c6 => ?_) (fun c6 => ?_)
    · replace hF := it_t c6 hF
      exact nomatch hF
    · replace hF := it_f c6 hF
      refine lv_aload_n hx hb dJ7_append_3_24 rfl (lv_at hl 0 rfl) ?_
      obtain ⟨fs7, x7_, e7, f7, hF⟩ := gQ_s hF
      refine h_get (C := RJ8) (T := TJ8) (N := 4) hx hb hts in_J8 hown hGr hr e7 (by decide) rfl 0 (by decide) (hts _ q279) (fun _ h9 => h9) f7 dJ7_append_3_25 ?_
      refine lv_aload_n hx hb dJ7_append_3_28 rfl (lv_at hl 0 rfl) ?_
      refine lv_dup hx hb dJ7_append_3_29 rfl ?_
      obtain ⟨fs8, x8_, e8, f8, hF⟩ := gI_s hF
      refine h_get (C := RJ8) (T := TJ8) (N := 4) hx hb hts in_J8 hown hGr hr e8 (by decide) rfl 3 (by decide) (hts _ q283) (fun _ h9 => h9) f8 dJ7_append_3_30 ?_
      refine lv_dup_x1 hx hb dJ7_append_3_33 rfl rfl ?_
      refine lv_iconst (v := 1) hx hb dJ7_append_3_34 (by decide) ?_
      refine lv_iadd hx hb dJ7_append_3_35 ?_
      obtain ⟨fs9, e9, k9, lo9, hF⟩ := pV_s hF
      obtain ⟨h9, eh9⟩ : ∃ z, z = hPut u5 a0 (.inr (12, fs9.set 3 (.int (x8_ + 1)))) := ⟨_, rfl⟩
      rw [← eh9] at hF
      refine h_put (C := RJ8) (T := TJ8) (N := 4) hx hb hts in_J8 tyJ8 tyJ8_ok nmJ8 hown hGr hr hS e9 (by decide) rfl 3 (by decide) (hts _ q283) (fun _ h9 => h9) rfl (tyJ8_ok 3 (by decide)) rfl rfl k9 lo9 dJ7_append_3_36 (fun H locs hr hS => ?_)
      rw [← eh9] at hr
      replace hc := cst_put hc eh9
      refine lv_iload_n hx hb dJ7_append_3_39 rfl (lv_at hl 1 rfl) ?_
      refine lv_i2b (v := (p1).toInt8.toInt32) hx hb dJ7_append_3_40 rfl ?_
      obtain ⟨n10, f10, e10, lo10, g10, hF⟩ := sI_s hF
      obtain ⟨h10, eh10⟩ : ∃ z, z = hPut h9 x7_ (.inl (1, n10, .inl (upd f10 (x8_).toNatClampNeg (vp_nar .byte ((p1).toInt8.toInt32))))) := ⟨_, rfl⟩
      rw [← eh10] at hF
      refine h_bast hx hb hGr hr hS 1 rfl e10 (x := ((p1).toInt8.toInt32)) g10 lo10 dJ7_append_3_41 (fun H locs hr hS => ?_)
      rw [← eh10] at hr
      replace hc := cst_put hc eh10
      refine lv_goto (tgt := 75) hx hb dJ7_append_3_42 (by decide) ?_
      refine lv_aload_n hx hb dJ7_append_3_75 rfl (lv_at hl 0 rfl) ?_
      have bz := bud_r hc hF hmc hms
      refine W.widen (k := mc) (n := ms) bz.1 bz.2 ?_
      exact W.aret (v := .ref a0) hx hb hret (Or.inl ⟨_, rfl⟩) (Or.inr ⟨_, rfl⟩) (fun t ht hWm => ⟨⟨h10, a0, rfl, trivial, Option.some.inj hF, h_end hGr hr hS ht hWm⟩, hS.F ht⟩) hS.2.2 dJ7_append_3_76

def GJ16_stringSize_1 (R : Nat → Hp → Int32 → Int32 → Int32 → Int32 → Option (Int32 × Hp)) (n : Nat) (h : Hp) (x0 : Int32) (x1 : Int32) (x2 : Int32) (x3 : Int32) : Option (Int32 × Hp) := if 10 ≤ x3 then some ((10 + x1), h) else if x0 ≤ x2 then R 1 h x0 x1 (10 * x2) (x3 + 1) else some ((x3 + x1), h)
def GJ16_stringSize_r : Nat → Nat → Hp → Int32 → Int32 → Int32 → Int32 → Option (Int32 × Hp)
  | 0 => fun _ _ _ _ _ _ => none
  | n + 1 => fun k => match k with  | _ => GJ16_stringSize_1 (GJ16_stringSize_r n) n
def GJ16_stringSize_0 (R : Nat → Hp → Int32 → Int32 → Int32 → Int32 → Option (Int32 × Hp)) (n : Nat) (h : Hp) (p0 : Int32) : Option (Int32 × Hp) := if p0 < 0 then R 1 h p0 (1 : Int32) ((-10) : Int32) (1 : Int32) else R 1 h (-p0) (0 : Int32) ((-10) : Int32) (1 : Int32)
def GJ16_stringSize (n : Nat) (h : Hp) (p0 : Int32) : Option (Int32 × Hp) := GJ16_stringSize_0 (GJ16_stringSize_r n) n h p0
theorem moJ16_stringSize_r (n : Nat) : (∀ (h : Hp) (x0 : Int32) (x1 : Int32) (x2 : Int32) (x3 : Int32), Mo h (GJ16_stringSize_r n 1 h x0 x1 x2 x3)) := by
  induction n with
  | zero => exact (fun _ _ _ _ _ => mo_no)
  | succ n ih =>
    have ml1 := ih
    exact (fun h x0 x1 x2 x3 => show Mo h (GJ16_stringSize_1 (GJ16_stringSize_r n) n h x0 x1 x2 x3) from by unfold GJ16_stringSize_1; exact mo_ite (mo_ret hle_rf) (mo_ite (mo_tr hle_rf (ml1 h x0 x1 (10 * x2) (x3 + 1))) (mo_ret hle_rf)))
theorem moJ16_stringSize (n : Nat) (h : Hp) (p0 : Int32) : Mo h (GJ16_stringSize n h p0) := by
  have ml1 := moJ16_stringSize_r n
  unfold GJ16_stringSize GJ16_stringSize_0
  exact mo_ite (mo_tr hle_rf (ml1 h p0 (1 : Int32) ((-10) : Int32) (1 : Int32))) (mo_tr hle_rf (ml1 h (-p0) (0 : Int32) ((-10) : Int32) (1 : Int32)))
set_option maxHeartbeats 4000000 in
set_option maxRecDepth 100000 in
theorem mgJ16_stringSize (l : Launch) (D : HD) (A : Nat → Prop) (h : Hp) (n : Nat) (p0 : Int32) (out : Int32 × Hp) (hF : GJ16_stringSize n h p0 = some out) (mc ms : Nat) (hmc : hCc out.2 = hCc h + mc) (hms : hSl out.2 = hSl h + ms) : Met l yJ16_stringSize (ws_ yJ16_stringSize cJ16_stringSize 4 (some .int)) ({ frames := 0, cells := mc, slots := ms, locals := 0 }) (va_Pc [.int p0] (hW D A h)) (va_Qi (fun r u => (r, u) = out) (hW D A) A) mc ms A := by
  refine va_MetF (cc := cJ16_stringSize) (maxL := 4) (ret := (some .int)) (by decide +kernel) rfl ?_
  intro p e s m args below meth c s₁ B hml hv
  obtain ⟨rfl, hr, hGr⟩ := hv
  have hx := B.exec
  have hb := B.bytes
  have hret := B.returns
  have hts := atoms_spec (ws := (ws_ yJ16_stringSize cJ16_stringSize 4 (some .int))) B.pre
  have hts : ∀ w ∈ lw_all, w.before _ s = true := fun w h => hts w (List.mem_cons_of_mem _ h)
  have hown : s.vm.findClass RJ16 = some m.cls := findClass_of_methodNamed B.named
  have hlocks := B.notSynchronized
  have hS : va_S A s.heap s.heap [] := va_S.rf
  have hc : cst h 0 0 h := cst_0
  have hl := lv_entry ([.int p0]) (n := 4) (Nat.le_of_ble_eq_true rfl)
  rw [lg_entry_eq]
  generalize (lg_sl ([.int p0]) ++ List.replicate (4 - (lg_sl ([.int p0])).length) Slot.unset).toArray = ls at hl ⊢
  have hl : lv_has ls 4 [(0, .int p0)] := hl
  obtain ⟨h0, eh0⟩ : ∃ z, z = h := ⟨_, rfl⟩
  rw [← eh0] at hmc hms
  have loop : ∀ n : Nat, (∀ (h : Hp) (x0 : Int32) (x1 : Int32) (x2 : Int32) (x3 : Int32), GJ16_stringSize_r n 1 h x0 x1 x2 x3 = some out → ∀ (H : Heap) (locs : List Loc) (cells slots : Nat), cst h0 cells slots h → hR D A h H → va_S A s.heap H locs → ∀ ls : Array Slot, lv_has ls 4 [(0, .int x0), (1, .int x1), (2, .int x2), (3, .int x3)] → W p l e (headSpec (ws_ yJ16_stringSize cJ16_stringSize 4 (some .int)) ({ frames := 0, cells := mc, slots := ms, locals := 0 })).room s m ([.int p0] : List Value).toArray below meth c H locs cells slots (MQ below (va_Qi (fun r u => (r, u) = out) (hW D A) A) ([.int p0] : List Value).toArray s mc ms A) (F0 m 16 ls [])) := by
    intro n
    induction n with
    | zero => exact (fun _ _ _ _ _ h => nomatch h)
    | succ n ih =>
      have lp1 := ih
      have ml1 := moJ16_stringSize_r n
      intro h x0 x1 x2 x3 hF H locs cells slots hc hr hS ls hl
      replace hF : GJ16_stringSize_1 (GJ16_stringSize_r n) n h x0 x1 x2 x3 = some out := hF
      unfold GJ16_stringSize_1 at hF
      refine lv_iload_n hx hb dJ16_stringSize_16 rfl (lv_at hl 3 rfl) ?_
      refine lv_bipush (v := 10) hx hb dJ16_stringSize_17 (by decide) ?_
      refine lv_icmp_ge (tgt := 42) hx hb dJ16_stringSize_19 (by decide) (fun c2 => ?_) (fun c2 => ?_)
      · replace hF := it_t c2 hF
        refine lv_bipush (v := 10) hx hb dJ16_stringSize_42 (by decide) ?_
        refine lv_iload_n hx hb dJ16_stringSize_44 rfl (lv_at hl 1 rfl) ?_
        refine lv_iadd hx hb dJ16_stringSize_45 ?_
        have bz := bud_r hc hF hmc hms
        refine W.widen (k := mc) (n := ms) bz.1 bz.2 ?_
        exact W.iret (v := (10 + x1)) hx hb hret (fun t ht hWm => ⟨⟨(10 + x1), h, rfl, Option.some.inj hF, h_end hGr hr hS ht hWm⟩, hS.F ht⟩) hS.2.2 dJ16_stringSize_46
      · replace hF := it_f c2 hF
        refine lv_iload_n hx hb dJ16_stringSize_22 rfl (lv_at hl 0 rfl) ?_
        refine lv_iload_n hx hb dJ16_stringSize_23 rfl (lv_at hl 2 rfl) ?_
        refine lv_icmp_le (tgt := 31) hx hb dJ16_stringSize_24 (by decide) (fun c3 => ?_) (fun c3 => ?_)
        · replace hF := it_t c3 hF
          refine lv_bipush (v := 10) hx hb dJ16_stringSize_31 (by decide) ?_
          refine lv_iload_n hx hb dJ16_stringSize_33 rfl (lv_at hl 2 rfl) ?_
          refine lv_imul hx hb dJ16_stringSize_34 ?_
          refine lv_istore_n (lv' := [(2, .int (10 * x2)), (0, .int x0), (1, .int x1), (3, .int x3)]) hx hb dJ16_stringSize_35 rfl hl (by decide) rfl (fun ls hl => ?_)
          refine lv_iinc (v := (x3 + 1)) (lv' := [(3, .int (x3 + 1)), (2, .int (10 * x2)), (0, .int x0), (1, .int x1)]) hx hb dJ16_stringSize_36 hl (k := 3) rfl rfl (by decide) rfl (fun ls hl => ?_)
          refine lv_goto (tgt := 16) hx hb dJ16_stringSize_39 (by decide) ?_
          exact lp1 h x0 x1 (10 * x2) (x3 + 1) hF _ _ _ _ hc hr hS ls (lv_sub hl [2, 3, 1, 0] rfl)
        · replace hF := it_f c3 hF
          refine lv_iload_n hx hb dJ16_stringSize_27 rfl (lv_at hl 3 rfl) ?_
          refine lv_iload_n hx hb dJ16_stringSize_28 rfl (lv_at hl 1 rfl) ?_
          refine lv_iadd hx hb dJ16_stringSize_29 ?_
          have bz := bud_r hc hF hmc hms
          refine W.widen (k := mc) (n := ms) bz.1 bz.2 ?_
          exact W.iret (v := (x3 + x1)) hx hb hret (fun t ht hWm => ⟨⟨(x3 + x1), h, rfl, Option.some.inj hF, h_end hGr hr hS ht hWm⟩, hS.F ht⟩) hS.2.2 dJ16_stringSize_30
  have lp1 := loop n
  have ml1 := moJ16_stringSize_r n
  have hc : cst h0 0 0 h := by rw [eh0]; exact cst_0
  unfold GJ16_stringSize GJ16_stringSize_0 at hF
  refine lv_iconst (v := 1) hx hb dJ16_stringSize_0 (by decide) ?_
  refine lv_istore_n (lv' := [(1, .int 1), (0, .int p0)]) hx hb dJ16_stringSize_1 rfl hl (by decide) rfl (fun ls hl => ?_)
  refine lv_iload_n hx hb dJ16_stringSize_2 rfl (lv_at hl 1 rfl) ?_
  refine lv_if_lt (tgt := 11) hx hb dJ16_stringSize_3 (by decide) (fun c1 => ?_) (fun c1 => ?_)
  · replace hF := it_t c1 hF
    refine lv_bipush (v := (-10)) hx hb dJ16_stringSize_11 (by decide) ?_
    refine lv_istore_n (lv' := [(2, .int (-10)), (1, .int 1), (0, .int p0)]) hx hb dJ16_stringSize_13 rfl hl (by decide) rfl (fun ls hl => ?_)
    refine lv_iconst (v := 1) hx hb dJ16_stringSize_14 (by decide) ?_
    refine lv_istore_n (lv' := [(3, .int 1), (2, .int (-10)), (1, .int 1), (0, .int p0)]) hx hb dJ16_stringSize_15 rfl hl (by decide) rfl (fun ls hl => ?_)
    exact lp1 h p0 (1 : Int32) ((-10) : Int32) (1 : Int32) hF _ _ _ _ hc hr hS ls (lv_sub hl [3, 2, 1, 0] rfl)
  · replace hF := it_f c1 hF
    refine lv_iconst (v := 0) hx hb dJ16_stringSize_6 (by decide) ?_
    refine lv_istore_n (lv' := [(1, .int 0), (0, .int p0)]) hx hb dJ16_stringSize_7 rfl hl (by decide) rfl (fun ls hl => ?_)
    refine lv_iload_n hx hb dJ16_stringSize_8 rfl (lv_at hl 1 rfl) ?_
    refine lv_ineg hx hb dJ16_stringSize_9 ?_
    refine lv_istore_n (lv' := [(0, .int (-p0)), (1, .int 0)]) hx hb dJ16_stringSize_10 rfl hl (by decide) rfl (fun ls hl => ?_)
    refine lv_bipush (v := (-10)) hx hb dJ16_stringSize_11 (by decide) ?_
    refine lv_istore_n (lv' := [(2, .int (-10)), (0, .int (-p0)), (1, .int 0)]) hx hb dJ16_stringSize_13 rfl hl (by decide) rfl (fun ls hl => ?_)
    refine lv_iconst (v := 1) hx hb dJ16_stringSize_14 (by decide) ?_
    refine lv_istore_n (lv' := [(3, .int 1), (2, .int (-10)), (0, .int (-p0)), (1, .int 0)]) hx hb dJ16_stringSize_15 rfl hl (by decide) rfl (fun ls hl => ?_)
    exact lp1 h (-p0) (0 : Int32) ((-10) : Int32) (1 : Int32) hF _ _ _ _ hc hr hS ls (lv_sub hl [2, 3, 1, 0] rfl)

def GJ16_getChars_1 (kz : Nat → Nat) (R : Nat → Hp → Int32 → Int32 → Nat → Int32 → Int32 → Option (Int32 × Hp)) (n : Nat) (h : Hp) (x0 : Int32) (x1 : Int32) (b2 : Nat) (x5 : Int32) (x6 : Int32) : Option (Int32 × Hp) := if (-100) < x0 then aI h (kz 301) 1 (-x0) (fun x5_ => sI h b2 1 (x5 + (-1)) (vp_nar .byte x5_) (fun h6 => if (-9) ≤ x0 then if x6 = 0 then some ((x5 + (-1)), h6) else sI h6 b2 1 ((x5 + (-1)) + (-1)) (vp_nar .byte (45 : Int32)) (fun h9 => some (((x5 + (-1)) + (-1)), h9)) else aI h6 (kz 302) 1 (-x0) (fun x10_ => sI h6 b2 1 ((x5 + (-1)) + (-1)) (vp_nar .byte x10_) (fun h11 => if x6 = 0 then some (((x5 + (-1)) + (-1)), h11) else sI h11 b2 1 (((x5 + (-1)) + (-1)) + (-1)) (vp_nar .byte (45 : Int32)) (fun h13 => some ((((x5 + (-1)) + (-1)) + (-1)), h13)))))) else gd (nzB 100) (aI h (kz 301) 1 (((x0 / 100) * 100) - x0) (fun x15_ => sI h b2 1 (x5 + (-1)) (vp_nar .byte x15_) (fun h16 => aI h16 (kz 302) 1 (((x0 / 100) * 100) - x0) (fun x17_ => sI h16 b2 1 ((x5 + (-1)) + (-1)) (vp_nar .byte x17_) (fun h18 => R 1 h18 (x0 / 100) x1 b2 ((x5 + (-1)) + (-1)) x6)))))
def GJ16_getChars_r (kz : Nat → Nat) : Nat → Nat → Hp → Int32 → Int32 → Nat → Int32 → Int32 → Option (Int32 × Hp)
  | 0 => fun _ _ _ _ _ _ _ => none
  | n + 1 => fun k => match k with  | _ => GJ16_getChars_1 kz (GJ16_getChars_r kz n) n
def GJ16_getChars_0 (kz : Nat → Nat) (R : Nat → Hp → Int32 → Int32 → Nat → Int32 → Int32 → Option (Int32 × Hp)) (n : Nat) (h : Hp) (p0 : Int32) (p1 : Int32) (a2 : Nat) : Option (Int32 × Hp) := if 0 ≤ p0 then if (0 : Int32) = 0 then R 1 h (-p0) p1 a2 p1 (0 : Int32) else R 1 h p0 p1 a2 p1 (0 : Int32) else if (1 : Int32) = 0 then R 1 h (-p0) p1 a2 p1 (1 : Int32) else R 1 h p0 p1 a2 p1 (1 : Int32)
def GJ16_getChars (kz : Nat → Nat) (n : Nat) (h : Hp) (p0 : Int32) (p1 : Int32) (a2 : Nat) : Option (Int32 × Hp) := GJ16_getChars_0 kz (GJ16_getChars_r kz n) n h p0 p1 a2
theorem moJ16_getChars_r (kz : Nat → Nat) (n : Nat) : (∀ (h : Hp) (x0 : Int32) (x1 : Int32) (b2 : Nat) (x5 : Int32) (x6 : Int32), Mo h (GJ16_getChars_r kz n 1 h x0 x1 b2 x5 x6)) := by
  induction n with
  | zero => exact (fun _ _ _ _ _ _ => mo_no)
  | succ n ih =>
    have ml1 := ih
    exact (fun h x0 x1 b2 x5 x6 => show Mo h (GJ16_getChars_1 kz (GJ16_getChars_r kz n) n h x0 x1 b2 x5 x6) from by unfold GJ16_getChars_1; exact mo_ite (mo_aI (fun x5_ => mo_sI hle_rf (fun h6 m6 => mo_ite (mo_ite (mo_ret m6) (mo_sI m6 (fun h9 m9 => mo_ret m9))) (mo_aI (fun x10_ => mo_sI m6 (fun h11 m11 => mo_ite (mo_ret m11) (mo_sI m11 (fun h13 m13 => mo_ret m13)))))))) (mo_gd (mo_aI (fun x15_ => mo_sI hle_rf (fun h16 m16 => mo_aI (fun x17_ => mo_sI m16 (fun h18 m18 => mo_tr m18 (ml1 h18 (x0 / 100) x1 b2 ((x5 + (-1)) + (-1)) x6))))))))
theorem moJ16_getChars (kz : Nat → Nat) (n : Nat) (h : Hp) (p0 : Int32) (p1 : Int32) (a2 : Nat) : Mo h (GJ16_getChars kz n h p0 p1 a2) := by
  have ml1 := moJ16_getChars_r kz n
  unfold GJ16_getChars GJ16_getChars_0
  exact mo_ite (mo_ite (mo_tr hle_rf (ml1 h (-p0) p1 a2 p1 (0 : Int32))) (mo_tr hle_rf (ml1 h p0 p1 a2 p1 (0 : Int32)))) (mo_ite (mo_tr hle_rf (ml1 h (-p0) p1 a2 p1 (1 : Int32))) (mo_tr hle_rf (ml1 h p0 p1 a2 p1 (1 : Int32))))
set_option maxHeartbeats 4000000 in
set_option maxRecDepth 100000 in
theorem mgJ16_getChars (l : Launch) (D : HD) (A : Nat → Prop) (h : Hp) (n : Nat) (p0 : Int32) (p1 : Int32) (a2 : Nat) (out : Int32 × Hp) (hF : GJ16_getChars D.2 n h p0 p1 a2 = some out) (mc ms : Nat) (hmc : hCc out.2 = hCc h + mc) (hms : hSl out.2 = hSl h + ms) : Met l yJ16_getChars (ws_ yJ16_getChars cJ16_getChars 7 (some .int)) ({ frames := 0, cells := mc, slots := ms, locals := 0 }) (va_Pc [.int p0, .int p1, .ref a2] (hW D A h)) (va_Qi (fun r u => (r, u) = out) (hW D A) A) mc ms A := by
  refine va_MetF (cc := cJ16_getChars) (maxL := 7) (ret := (some .int)) (by decide +kernel) rfl ?_
  intro p e s m args below meth c s₁ B hml hv
  obtain ⟨rfl, hr, hGr⟩ := hv
  have hx := B.exec
  have hb := B.bytes
  have hret := B.returns
  have hts := atoms_spec (ws := (ws_ yJ16_getChars cJ16_getChars 7 (some .int))) B.pre
  have hts : ∀ w ∈ lw_all, w.before _ s = true := fun w h => hts w (List.mem_cons_of_mem _ h)
  have hown : s.vm.findClass RJ16 = some m.cls := findClass_of_methodNamed B.named
  have hlocks := B.notSynchronized
  have hS : va_S A s.heap s.heap [] := va_S.rf
  have hc : cst h 0 0 h := cst_0
  have hl := lv_entry ([.int p0, .int p1, .ref a2]) (n := 7) (Nat.le_of_ble_eq_true rfl)
  rw [lg_entry_eq]
  generalize (lg_sl ([.int p0, .int p1, .ref a2]) ++ List.replicate (7 - (lg_sl ([.int p0, .int p1, .ref a2])).length) Slot.unset).toArray = ls at hl ⊢
  have hl : lv_has ls 7 [(0, .int p0), (1, .int p1), (2, .ref a2)] := hl
  obtain ⟨h0, eh0⟩ : ∃ z, z = h := ⟨_, rfl⟩
  rw [← eh0] at hmc hms
  have loop : ∀ n : Nat, (∀ (h : Hp) (x0 : Int32) (x1 : Int32) (b2 : Nat) (x5 : Int32) (x6 : Int32), GJ16_getChars_r D.2 n 1 h x0 x1 b2 x5 x6 = some out → ∀ (H : Heap) (locs : List Loc) (cells slots : Nat), cst h0 cells slots h → hR D A h H → va_S A s.heap H locs → ∀ ls : Array Slot, lv_has ls 7 [(0, .int x0), (1, .int x1), (2, .ref b2), (5, .int x5), (6, .int x6)] → W p l e (headSpec (ws_ yJ16_getChars cJ16_getChars 7 (some .int)) ({ frames := 0, cells := mc, slots := ms, locals := 0 })).room s m ([.int p0, .int p1, .ref a2] : List Value).toArray below meth c H locs cells slots (MQ below (va_Qi (fun r u => (r, u) = out) (hW D A) A) ([.int p0, .int p1, .ref a2] : List Value).toArray s mc ms A) (F0 m 22 ls [])) := by
    intro n
    induction n with
    | zero => exact (fun _ _ _ _ _ _ h => nomatch h)
    | succ n ih =>
      have lp1 := ih
      have ml1 := moJ16_getChars_r D.2 n
      intro h x0 x1 b2 x5 x6 hF H locs cells slots hc hr hS ls hl
      replace hF : GJ16_getChars_1 D.2 (GJ16_getChars_r D.2 n) n h x0 x1 b2 x5 x6 = some out := hF
      unfold GJ16_getChars_1 at hF
      refine lv_iload_n hx hb dJ16_getChars_22 rfl (lv_at hl 0 rfl) ?_
      refine lv_bipush (v := (-100)) hx hb dJ16_getChars_23 (by decide) ?_
      refine lv_icmp_gt (tgt := 72) hx hb dJ16_getChars_25 (by decide) (fun c4 => ?_) (fun c4 => ?_)
      · replace hF := it_t c4 hF
        refine lv_aload_n hx hb dJ16_getChars_72 rfl (lv_at hl 2 rfl) ?_
        refine lv_iinc (v := (x5 + (-1))) (lv' := [(5, .int (x5 + (-1))), (0, .int x0), (1, .int x1), (2, .ref b2), (6, .int x6)]) hx hb dJ16_getChars_73 hl (k := 3) rfl rfl (by decide) rfl (fun ls hl => ?_)
        refine lv_iload hx hb dJ16_getChars_76 (lv_at hl 0 rfl) ?_
        refine va_gets hx hb hGr.kst.2.1 hS hown (hts _ q428) (fun _ h9 => h9) dJ16_getChars_78 ?_
        refine lv_iload_n hx hb dJ16_getChars_81 rfl (lv_at hl 1 rfl) ?_
        refine lv_ineg hx hb dJ16_getChars_82 ?_
        obtain ⟨n5, f5, e5, g5, hF⟩ := aI_s hF
        obtain ⟨x5_, ex5⟩ : ∃ z, z = f5 ((-x0)).toNatClampNeg := ⟨_, rfl⟩
        rw [← ex5] at hF
        refine h_bald hx hb hGr hr 1 rfl e5 g5 dJ16_getChars_83 ?_
        rw [← ex5]
        obtain ⟨n6, f6, e6, lo6, g6, hF⟩ := sI_s hF
        obtain ⟨h6, eh6⟩ : ∃ z, z = hPut h b2 (.inl (1, n6, .inl (upd f6 ((x5 + (-1))).toNatClampNeg (vp_nar .byte x5_)))) := ⟨_, rfl⟩
        rw [← eh6] at hF
        refine h_bast hx hb hGr hr hS 1 rfl e6 (x := x5_) g6 lo6 dJ16_getChars_84 (fun H locs hr hS => ?_)
        rw [← eh6] at hr
        replace hc := cst_put hc eh6
        refine lv_iload_n hx hb dJ16_getChars_85 rfl (lv_at hl 1 rfl) ?_
        refine lv_bipush (v := (-9)) hx hb dJ16_getChars_86 (by decide) ?_
        refine lv_icmp_ge (tgt := 104) hx hb dJ16_getChars_88 (by decide) (fun c7 => ?_) (fun c7 => ?_)
        · replace hF := it_t c7 hF
          refine lv_iload hx hb dJ16_getChars_104 (lv_at hl 4 rfl) ?_
          refine lv_if_eq (tgt := 118) hx hb dJ16_getChars_106 (by decide) (fun c8 => ?_) (fun c8 => ?_)
          · replace hF := it_t c8 hF
            refine lv_iload hx hb dJ16_getChars_118 (lv_at hl 0 rfl) ?_
            have bz := bud_r hc hF hmc hms
            refine W.widen (k := mc) (n := ms) bz.1 bz.2 ?_
            exact W.iret (v := (x5 + (-1))) hx hb hret (fun t ht hWm => ⟨⟨(x5 + (-1)), h6, rfl, Option.some.inj hF, h_end hGr hr hS ht hWm⟩, hS.F ht⟩) hS.2.2 dJ16_getChars_120
          · replace hF := it_f c8 hF
            refine lv_aload_n hx hb dJ16_getChars_109 rfl (lv_at hl 3 rfl) ?_
            refine lv_iinc (v := ((x5 + (-1)) + (-1))) (lv' := [(5, .int ((x5 + (-1)) + (-1))), (0, .int x0), (1, .int x1), (2, .ref b2), (6, .int x6)]) hx hb dJ16_getChars_110 hl (k := 0) rfl rfl (by decide) rfl (fun ls hl => ?_)
            refine lv_iload hx hb dJ16_getChars_113 (lv_at hl 0 rfl) ?_
            refine lv_bipush (v := 45) hx hb dJ16_getChars_115 (by decide) ?_
            obtain ⟨n9, f9, e9, lo9, g9, hF⟩ := sI_s hF
            obtain ⟨h9, eh9⟩ : ∃ z, z = hPut h6 b2 (.inl (1, n9, .inl (upd f9 (((x5 + (-1)) + (-1))).toNatClampNeg (vp_nar .byte (45 : Int32))))) := ⟨_, rfl⟩
            rw [← eh9] at hF
            refine h_bast hx hb hGr hr hS 1 rfl e9 (x := 45) g9 lo9 dJ16_getChars_117 (fun H locs hr hS => ?_)
            rw [← eh9] at hr
            replace hc := cst_put hc eh9
            refine lv_iload hx hb dJ16_getChars_118 (lv_at hl 0 rfl) ?_
            have bz := bud_r hc hF hmc hms
            refine W.widen (k := mc) (n := ms) bz.1 bz.2 ?_
            exact W.iret (v := ((x5 + (-1)) + (-1))) hx hb hret (fun t ht hWm => ⟨⟨((x5 + (-1)) + (-1)), h9, rfl, Option.some.inj hF, h_end hGr hr hS ht hWm⟩, hS.F ht⟩) hS.2.2 dJ16_getChars_120
        · replace hF := it_f c7 hF
          refine lv_aload_n hx hb dJ16_getChars_91 rfl (lv_at hl 3 rfl) ?_
          refine lv_iinc (v := ((x5 + (-1)) + (-1))) (lv' := [(5, .int ((x5 + (-1)) + (-1))), (0, .int x0), (1, .int x1), (2, .ref b2), (6, .int x6)]) hx hb dJ16_getChars_92 hl (k := 0) rfl rfl (by decide) rfl (fun ls hl => ?_)
          refine lv_iload hx hb dJ16_getChars_95 (lv_at hl 0 rfl) ?_
          refine va_gets hx hb hGr.kst.2.2.1 hS hown (hts _ q430) (fun _ h9 => h9) dJ16_getChars_97 ?_
          refine lv_iload_n hx hb dJ16_getChars_100 rfl (lv_at hl 1 rfl) ?_
          refine lv_ineg hx hb dJ16_getChars_101 ?_
          obtain ⟨n10, f10, e10, g10, hF⟩ := aI_s hF
          obtain ⟨x10_, ex10⟩ : ∃ z, z = f10 ((-x0)).toNatClampNeg := ⟨_, rfl⟩
          rw [← ex10] at hF
          refine h_bald hx hb hGr hr 1 rfl e10 g10 dJ16_getChars_102 ?_
          rw [← ex10]
          obtain ⟨n11, f11, e11, lo11, g11, hF⟩ := sI_s hF
          obtain ⟨h11, eh11⟩ : ∃ z, z = hPut h6 b2 (.inl (1, n11, .inl (upd f11 (((x5 + (-1)) + (-1))).toNatClampNeg (vp_nar .byte x10_)))) := ⟨_, rfl⟩
          rw [← eh11] at hF
          refine h_bast hx hb hGr hr hS 1 rfl e11 (x := x10_) g11 lo11 dJ16_getChars_103 (fun H locs hr hS => ?_)
          rw [← eh11] at hr
          replace hc := cst_put hc eh11
          refine lv_iload hx hb dJ16_getChars_104 (lv_at hl 4 rfl) ?_
          refine lv_if_eq (tgt := 118) hx hb dJ16_getChars_106 (by decide) (fun c12 => ?_) (fun c12 => ?_)
          · replace hF := it_t c12 hF
            refine lv_iload hx hb dJ16_getChars_118 (lv_at hl 0 rfl) ?_
            have bz := bud_r hc hF hmc hms
            refine W.widen (k := mc) (n := ms) bz.1 bz.2 ?_
            exact W.iret (v := ((x5 + (-1)) + (-1))) hx hb hret (fun t ht hWm => ⟨⟨((x5 + (-1)) + (-1)), h11, rfl, Option.some.inj hF, h_end hGr hr hS ht hWm⟩, hS.F ht⟩) hS.2.2 dJ16_getChars_120
          · replace hF := it_f c12 hF
            refine lv_aload_n hx hb dJ16_getChars_109 rfl (lv_at hl 3 rfl) ?_
            refine lv_iinc (v := (((x5 + (-1)) + (-1)) + (-1))) (lv' := [(5, .int (((x5 + (-1)) + (-1)) + (-1))), (0, .int x0), (1, .int x1), (2, .ref b2), (6, .int x6)]) hx hb dJ16_getChars_110 hl (k := 0) rfl rfl (by decide) rfl (fun ls hl => ?_)
            refine lv_iload hx hb dJ16_getChars_113 (lv_at hl 0 rfl) ?_
            refine lv_bipush (v := 45) hx hb dJ16_getChars_115 (by decide) ?_
            obtain ⟨n13, f13, e13, lo13, g13, hF⟩ := sI_s hF
            obtain ⟨h13, eh13⟩ : ∃ z, z = hPut h11 b2 (.inl (1, n13, .inl (upd f13 ((((x5 + (-1)) + (-1)) + (-1))).toNatClampNeg (vp_nar .byte (45 : Int32))))) := ⟨_, rfl⟩
            rw [← eh13] at hF
            refine h_bast hx hb hGr hr hS 1 rfl e13 (x := 45) g13 lo13 dJ16_getChars_117 (fun H locs hr hS => ?_)
            rw [← eh13] at hr
            replace hc := cst_put hc eh13
            refine lv_iload hx hb dJ16_getChars_118 (lv_at hl 0 rfl) ?_
            have bz := bud_r hc hF hmc hms
            refine W.widen (k := mc) (n := ms) bz.1 bz.2 ?_
            exact W.iret (v := (((x5 + (-1)) + (-1)) + (-1))) hx hb hret (fun t ht hWm => ⟨⟨(((x5 + (-1)) + (-1)) + (-1)), h13, rfl, Option.some.inj hF, h_end hGr hr hS ht hWm⟩, hS.F ht⟩) hS.2.2 dJ16_getChars_120
      · replace hF := it_f c4 hF
        refine lv_iload_n hx hb dJ16_getChars_28 rfl (lv_at hl 0 rfl) ?_
        refine lv_bipush (v := 100) hx hb dJ16_getChars_29 (by decide) ?_
        obtain ⟨g14, hF⟩ := gd_s hF
        refine lv_idiv hx hb dJ16_getChars_31 (nz_of g14) ?_
        refine lv_istore_n (lv' := [(3, .int (x0 / 100)), (0, .int x0), (1, .int x1), (2, .ref b2), (5, .int x5), (6, .int x6)]) hx hb dJ16_getChars_32 rfl hl (by decide) rfl (fun ls hl => ?_)
        refine lv_iload_n hx hb dJ16_getChars_33 rfl (lv_at hl 0 rfl) ?_
        refine lv_bipush (v := 100) hx hb dJ16_getChars_34 (by decide) ?_
        refine lv_imul hx hb dJ16_getChars_36 ?_
        refine lv_iload_n hx hb dJ16_getChars_37 rfl (lv_at hl 1 rfl) ?_
        refine lv_isub hx hb dJ16_getChars_38 ?_
        refine lv_istore (lv' := [(4, .int (((x0 / 100) * 100) - x0)), (3, .int (x0 / 100)), (0, .int x0), (1, .int x1), (2, .ref b2), (5, .int x5), (6, .int x6)]) hx hb dJ16_getChars_39 hl (by decide) rfl (fun ls hl => ?_)
        refine lv_iload_n hx hb dJ16_getChars_41 rfl (lv_at hl 1 rfl) ?_
        refine lv_istore_n (lv' := [(0, .int (x0 / 100)), (4, .int (((x0 / 100) * 100) - x0)), (3, .int (x0 / 100)), (1, .int x1), (2, .ref b2), (5, .int x5), (6, .int x6)]) hx hb dJ16_getChars_42 rfl hl (by decide) rfl (fun ls hl => ?_)
        refine lv_aload_n hx hb dJ16_getChars_43 rfl (lv_at hl 4 rfl) ?_
        refine lv_iinc (v := (x5 + (-1))) (lv' := [(5, .int (x5 + (-1))), (0, .int (x0 / 100)), (4, .int (((x0 / 100) * 100) - x0)), (3, .int (x0 / 100)), (1, .int x1), (2, .ref b2), (6, .int x6)]) hx hb dJ16_getChars_44 hl (k := 5) rfl rfl (by decide) rfl (fun ls hl => ?_)
        refine lv_iload hx hb dJ16_getChars_47 (lv_at hl 0 rfl) ?_
        refine va_gets hx hb hGr.kst.2.1 hS hown (hts _ q428) (fun _ h9 => h9) dJ16_getChars_49 ?_
        refine lv_iload hx hb dJ16_getChars_52 (lv_at hl 2 rfl) ?_
        obtain ⟨n15, f15, e15, g15, hF⟩ := aI_s hF
        obtain ⟨x15_, ex15⟩ : ∃ z, z = f15 ((((x0 / 100) * 100) - x0)).toNatClampNeg := ⟨_, rfl⟩
        rw [← ex15] at hF
        refine h_bald hx hb hGr hr 1 rfl e15 g15 dJ16_getChars_54 ?_
        rw [← ex15]
        obtain ⟨n16, f16, e16, lo16, g16, hF⟩ := sI_s hF
        obtain ⟨h16, eh16⟩ : ∃ z, z = hPut h b2 (.inl (1, n16, .inl (upd f16 ((x5 + (-1))).toNatClampNeg (vp_nar .byte x15_)))) := ⟨_, rfl⟩
        rw [← eh16] at hF
        refine h_bast hx hb hGr hr hS 1 rfl e16 (x := x15_) g16 lo16 dJ16_getChars_55 (fun H locs hr hS => ?_)
        rw [← eh16] at hr
        replace hc := cst_put hc eh16
        refine lv_aload_n hx hb dJ16_getChars_56 rfl (lv_at hl 5 rfl) ?_
        refine lv_iinc (v := ((x5 + (-1)) + (-1))) (lv' := [(5, .int ((x5 + (-1)) + (-1))), (0, .int (x0 / 100)), (4, .int (((x0 / 100) * 100) - x0)), (3, .int (x0 / 100)), (1, .int x1), (2, .ref b2), (6, .int x6)]) hx hb dJ16_getChars_57 hl (k := 0) rfl rfl (by decide) rfl (fun ls hl => ?_)
        refine lv_iload hx hb dJ16_getChars_60 (lv_at hl 0 rfl) ?_
        refine va_gets hx hb hGr.kst.2.2.1 hS hown (hts _ q430) (fun _ h9 => h9) dJ16_getChars_62 ?_
        refine lv_iload hx hb dJ16_getChars_65 (lv_at hl 2 rfl) ?_
        obtain ⟨n17, f17, e17, g17, hF⟩ := aI_s hF
        obtain ⟨x17_, ex17⟩ : ∃ z, z = f17 ((((x0 / 100) * 100) - x0)).toNatClampNeg := ⟨_, rfl⟩
        rw [← ex17] at hF
        refine h_bald hx hb hGr hr 1 rfl e17 g17 dJ16_getChars_67 ?_
        rw [← ex17]
        obtain ⟨n18, f18, e18, lo18, g18, hF⟩ := sI_s hF
        obtain ⟨h18, eh18⟩ : ∃ z, z = hPut h16 b2 (.inl (1, n18, .inl (upd f18 (((x5 + (-1)) + (-1))).toNatClampNeg (vp_nar .byte x17_)))) := ⟨_, rfl⟩
        rw [← eh18] at hF
        refine h_bast hx hb hGr hr hS 1 rfl e18 (x := x17_) g18 lo18 dJ16_getChars_68 (fun H locs hr hS => ?_)
        rw [← eh18] at hr
        replace hc := cst_put hc eh18
        refine lv_goto (tgt := 22) hx hb dJ16_getChars_69 (by decide) ?_
        exact lp1 h18 (x0 / 100) x1 b2 ((x5 + (-1)) + (-1)) x6 hF _ _ _ _ hc hr hS ls (lv_sub hl [1, 4, 5, 0, 6] rfl)
  have lp1 := loop n
  have ml1 := moJ16_getChars_r D.2 n
  have hc : cst h0 0 0 h := by rw [eh0]; exact cst_0
  unfold GJ16_getChars GJ16_getChars_0 at hF
  refine lv_iload_n hx hb dJ16_getChars_0 rfl (lv_at hl 1 rfl) ?_
  refine lv_istore (lv' := [(5, .int p1), (0, .int p0), (1, .int p1), (2, .ref a2)]) hx hb dJ16_getChars_1 hl (by decide) rfl (fun ls hl => ?_)
  refine lv_iload_n hx hb dJ16_getChars_3 rfl (lv_at hl 1 rfl) ?_
  refine lv_if_ge (tgt := 11) hx hb dJ16_getChars_4 (by decide) (fun c1 => ?_) (fun c1 => ?_)
  · replace hF := it_t c1 hF
    refine lv_iconst (v := 0) hx hb dJ16_getChars_11 (by decide) ?_
    refine lv_istore (lv' := [(6, .int 0), (5, .int p1), (0, .int p0), (1, .int p1), (2, .ref a2)]) hx hb dJ16_getChars_12 hl (by decide) rfl (fun ls hl => ?_)
    refine lv_iload hx hb dJ16_getChars_14 (lv_at hl 0 rfl) ?_
    refine lv_if_ne (tgt := 22) hx hb dJ16_getChars_16 (by decide) (fun c2 => ?_) (fun c2 => ?_)
    · replace hF := it_f c2 hF
      exact lp1 h p0 p1 a2 p1 (0 : Int32) hF _ _ _ _ hc hr hS ls (lv_sub hl [2, 3, 4, 1, 0] rfl)
    · replace hF := it_t c2 hF
      refine lv_iload_n hx hb dJ16_getChars_19 rfl (lv_at hl 2 rfl) ?_
      refine lv_ineg hx hb dJ16_getChars_20 ?_
      refine lv_istore_n (lv' := [(0, .int (-p0)), (6, .int 0), (5, .int p1), (1, .int p1), (2, .ref a2)]) hx hb dJ16_getChars_21 rfl hl (by decide) rfl (fun ls hl => ?_)
      exact lp1 h (-p0) p1 a2 p1 (0 : Int32) hF _ _ _ _ hc hr hS ls (lv_sub hl [0, 3, 4, 2, 1] rfl)
  · replace hF := it_f c1 hF
    refine lv_iconst (v := 1) hx hb dJ16_getChars_7 (by decide) ?_
    refine lv_goto (tgt := 12) hx hb dJ16_getChars_8 (by decide) ?_
    refine lv_istore (lv' := [(6, .int 1), (5, .int p1), (0, .int p0), (1, .int p1), (2, .ref a2)]) hx hb dJ16_getChars_12 hl (by decide) rfl (fun ls hl => ?_)
    refine lv_iload hx hb dJ16_getChars_14 (lv_at hl 0 rfl) ?_
    refine lv_if_ne (tgt := 22) hx hb dJ16_getChars_16 (by decide) (fun c3 => ?_) (fun c3 => ?_)
    · replace hF := it_f c3 hF
      exact lp1 h p0 p1 a2 p1 (1 : Int32) hF _ _ _ _ hc hr hS ls (lv_sub hl [2, 3, 4, 1, 0] rfl)
    · replace hF := it_t c3 hF
      refine lv_iload_n hx hb dJ16_getChars_19 rfl (lv_at hl 2 rfl) ?_
      refine lv_ineg hx hb dJ16_getChars_20 ?_
      refine lv_istore_n (lv' := [(0, .int (-p0)), (6, .int 1), (5, .int p1), (1, .int p1), (2, .ref a2)]) hx hb dJ16_getChars_21 rfl hl (by decide) rfl (fun ls hl => ?_)
      exact lp1 h (-p0) p1 a2 p1 (1 : Int32) hF _ _ _ _ hc hr hS ls (lv_sub hl [0, 3, 4, 2, 1] rfl)

def GJ7_append_2 (kz : Nat → Nat) (n : Nat) (h : Hp) (a0 : Nat) (p1 : Int32) : Option (Nat × Hp) := gI h a0 12 3 (fun x1_ => bnd (GJ16_stringSize n h p1) (fun r2 u2 => gC u2 a0 12 (bnd (GJ7_ensureCapacityInternal u2 a0 (x1_ + r2)) (fun r3 u3 => gC u3 a0 12 (bnd (GJ7_isLatin1 u3 a0) (fun r4 u4 => if r4 = 0 then none else gQ u4 a0 12 0 (fun x6_ => bnd (GJ16_getChars kz n u4 p1 (x1_ + r2) x6_) (fun r7 u7 => pV u7 a0 12 3 (.int (x1_ + r2)) (fun h8 => some (a0, h8))))))))))
theorem moJ7_append_2 (kz : Nat → Nat) (n : Nat) (h : Hp) (a0 : Nat) (p1 : Int32) : Mo h (GJ7_append_2 kz n h a0 p1) := by
  unfold GJ7_append_2
  exact mo_gI (fun x1_ => mo_bnd (moJ16_stringSize n h p1) hle_rf (fun r2 u2 m2 => mo_gC (mo_bnd (moJ7_ensureCapacityInternal u2 a0 (x1_ + r2)) m2 (fun r3 u3 m3 => mo_gC (mo_bnd (moJ7_isLatin1 u3 a0) m3 (fun r4 u4 m4 => mo_ite (mo_no) (mo_gQ (fun x6_ => mo_bnd (moJ16_getChars kz n u4 p1 (x1_ + r2) x6_) m4 (fun r7 u7 m7 => mo_pV m7 (fun h8 m8 => mo_ret m8))))))))))
set_option maxHeartbeats 4000000 in
set_option maxRecDepth 100000 in
theorem mgJ7_append_2 (l : Launch) (D : HD) (A : Nat → Prop) (h : Hp) (n : Nat) (a0 : Nat) (p1 : Int32) (out : Nat × Hp) (hF : GJ7_append_2 D.2 n h a0 p1 = some out) (mc ms : Nat) (hmc : hCc out.2 = hCc h + mc) (hms : hSl out.2 = hSl h + ms) : Met l yJ7_append_2 (ws_ yJ7_append_2 cJ7_append_2 4 (some (.object "java/lang/AbstractStringBuilder"))) ({ frames := 4, cells := mc, slots := ms, locals := 124 }) (va_Pc [.ref a0, .int p1] (hW D A h)) (va_Qr (fun _ : Hp => True) (fun u r t => (r, u) = out ∧ hW D A u t) A) mc ms A := by
  refine va_MetF (cc := cJ7_append_2) (maxL := 4) (ret := (some (.object "java/lang/AbstractStringBuilder"))) (by decide +kernel) rfl ?_
  intro p e s m args below meth c s₁ B hml hv
  obtain ⟨rfl, hr, hGr⟩ := hv
  have hx := B.exec
  have hb := B.bytes
  have hret := B.returns
  have hts := atoms_spec (ws := (ws_ yJ7_append_2 cJ7_append_2 4 (some (.object "java/lang/AbstractStringBuilder")))) B.pre
  have hts : ∀ w ∈ lw_all, w.before _ s = true := fun w h => hts w (List.mem_cons_of_mem _ h)
  have hown : s.vm.findClass RJ7 = some m.cls := findClass_of_methodNamed B.named
  have hlocks := B.notSynchronized
  have hS : va_S A s.heap s.heap [] := va_S.rf
  have hc : cst h 0 0 h := cst_0
  have hl := lv_entry ([.ref a0, .int p1]) (n := 4) (Nat.le_of_ble_eq_true rfl)
  rw [lg_entry_eq]
  generalize (lg_sl ([.ref a0, .int p1]) ++ List.replicate (4 - (lg_sl ([.ref a0, .int p1])).length) Slot.unset).toArray = ls at hl ⊢
  have hl : lv_has ls 4 [(0, .ref a0), (1, .int p1)] := hl
  unfold GJ7_append_2 at hF
  refine lv_aload_n hx hb dJ7_append_2_0 rfl (lv_at hl 0 rfl) ?_
  obtain ⟨fs1, x1_, e1, f1, hF⟩ := gI_s hF
  refine h_get (C := RJ8) (T := TJ8) (N := 4) hx hb hts in_J8 hown hGr hr e1 (by decide) rfl 3 (by decide) (hts _ q283) (fun _ h9 => h9) f1 dJ7_append_2_1 ?_
  refine lv_istore_n (lv' := [(2, .int x1_), (0, .ref a0), (1, .int p1)]) hx hb dJ7_append_2_4 rfl hl (by decide) rfl (fun ls hl => ?_)
  refine lv_iload_n hx hb dJ7_append_2_5 rfl (lv_at hl 0 rfl) ?_
  refine lv_iload_n hx hb dJ7_append_2_6 rfl (lv_at hl 2 rfl) ?_
  obtain ⟨r2, u2, e2, hF⟩ := bnd_s hF
  have mm2 : hle u2 out.2 := (show Mo u2 _ from mo_gC (mo_bnd (moJ7_ensureCapacityInternal u2 a0 (x1_ + r2)) hle_rf (fun r3 u3 m3 => mo_gC (mo_bnd (moJ7_isLatin1 u3 a0) m3 (fun r4 u4 m4 => mo_ite (mo_no) (mo_gQ (fun x6_ => mo_bnd (moJ16_getChars D.2 n u4 p1 (x1_ + r2) x6_) m4 (fun r7 u7 m7 => mo_pV m7 (fun h8 m8 => mo_ret m8))))))))) _ hF
  obtain ⟨mc2, ms2, hmc2, hms2⟩ := up_of (moJ16_stringSize n h p1 _ e2)
  replace hc := cst_call hc hmc2 hms2
  refine h_calli (va_runS (As := [.int p1]) (rest := [.int x1_]) ⟨hx, hb, hml, hown, hts⟩ (mgJ16_stringSize l D A h n p1 _ e2 mc2 ms2 hmc2 hms2) (va_cwS 1 hts (lw_S q422 q423 q122 q424) rfl rfl rfl (by decide +kernel) ⟨Nat.le_of_ble_eq_true rfl, Nat.le_of_ble_eq_true rfl⟩) (h_preS hGr hr hS _) rfl rfl hl.1 rfl (lv_room (Nat.le_of_ble_eq_true rfl)) dJ7_append_2_7 ⟨(bud hc mm2 hmc hms).1, (bud hc mm2 hmc hms).2⟩) hS (fun rr uu H locs hw hr hS => ?_)
  obtain rfl : u2 = uu := (congrArg Prod.snd hw).symm
  obtain rfl : r2 = rr := (congrArg Prod.fst hw).symm
  refine lv_iadd hx hb dJ7_append_2_10 ?_
  refine lv_istore_n (lv' := [(3, .int (x1_ + r2)), (2, .int x1_), (0, .ref a0), (1, .int p1)]) hx hb dJ7_append_2_11 rfl hl (by decide) rfl (fun ls hl => ?_)
  refine lv_aload_n hx hb dJ7_append_2_12 rfl (lv_at hl 2 rfl) ?_
  refine lv_iload_n hx hb dJ7_append_2_13 rfl (lv_at hl 0 rfl) ?_
  obtain ⟨fc3, ec3, hF⟩ := gC_s hF
  obtain ⟨r3, u3, e3, hF⟩ := bnd_s hF
  have mm3 : hle u3 out.2 := (show Mo u3 _ from mo_gC (mo_bnd (moJ7_isLatin1 u3 a0) hle_rf (fun r4 u4 m4 => mo_ite (mo_no) (mo_gQ (fun x6_ => mo_bnd (moJ16_getChars D.2 n u4 p1 (x1_ + r2) x6_) m4 (fun r7 u7 m7 => mo_pV m7 (fun h8 m8 => mo_ret m8))))))) _ hF
  obtain ⟨mc3, ms3, hmc3, hms3⟩ := up_of (moJ7_ensureCapacityInternal u2 a0 (x1_ + r2) _ e3)
  replace hc := cst_call hc hmc3 hms3
  refine h_callv (va_runV (As := [.int (x1_ + r2)]) (rest := []) ⟨hx, hb, hml, hown, hts⟩ (mgJ7_ensureCapacityInternal l D A u2 a0 (x1_ + r2) _ e3 mc3 ms3 hmc3 hms3) (h_cwP 1 hts (lw_meth q309) rfl rfl rfl (hts _ q306) (hts _ q111) (hts _ q308) (h_selp (hGr.nw q307 rfl) (hts _ q308) (by decide) (hGr.K.1 12 _ rfl).2.1 (hts _ q344) rfl) (by decide +kernel) ⟨Nat.le_of_ble_eq_true rfl, Nat.le_of_ble_eq_true rfl⟩) (h_preV hGr hr hS ec3 (by decide) (q := (RJ8, TJ8, 4)) rfl _) rfl rfl hl.1 rfl (lv_room (Nat.le_of_ble_eq_true rfl)) dJ7_append_2_14 ⟨(bud hc mm3 hmc hms).1, (bud hc mm3 hmc hms).2⟩) hS (fun uu H locs hw hr hS => ?_)
  obtain rfl : u3 = uu := (congrArg Prod.snd hw).symm
  refine lv_aload_n hx hb dJ7_append_2_17 rfl (lv_at hl 2 rfl) ?_
  obtain ⟨fc4, ec4, hF⟩ := gC_s hF
  obtain ⟨r4, u4, e4, hF⟩ := bnd_s hF
  have mm4 : hle u4 out.2 := (show Mo u4 _ from mo_ite (mo_no) (mo_gQ (fun x6_ => mo_bnd (moJ16_getChars D.2 n u4 p1 (x1_ + r2) x6_) hle_rf (fun r7 u7 m7 => mo_pV m7 (fun h8 m8 => mo_ret m8))))) _ hF
  obtain ⟨mc4, ms4, hmc4, hms4⟩ := up_of (moJ7_isLatin1 u3 a0 _ e4)
  replace hc := cst_call hc hmc4 hms4
  refine h_calli (va_runU (C := RJ8) (owner := "java/lang/AbstractStringBuilder") (x := ⟨"java/lang/AbstractStringBuilder", "isLatin1", "()Z"⟩) (As := []) (rest := []) ⟨hx, hb, hml, hown, hts⟩ (mgJ7_isLatin1 l D A u3 a0 _ e4 mc4 ms4 hmc4 hms4) (va_cwU 0 hts (lw_U q341 q343 q344 q342 q111 q345) rfl rfl rfl rfl (by decide +kernel) ⟨Nat.le_of_ble_eq_true rfl, Nat.le_of_ble_eq_true rfl⟩) (h_preV hGr hr hS ec4 (by decide) (q := (RJ8, TJ8, 4)) rfl _) rfl rfl hl.1 rfl (lv_room (Nat.le_of_ble_eq_true rfl)) dJ7_append_2_18 ⟨(bud hc mm4 hmc hms).1, (bud hc mm4 hmc hms).2⟩) hS (fun rr uu H locs hw hr hS => ?_)
  obtain rfl : u4 = uu := (congrArg Prod.snd hw).symm
  obtain rfl : r4 = rr := (congrArg Prod.fst hw).symm
  refine lv_if_eq (tgt := 37) hx hb dJ7_append_2_21 (by decide) (fun c5 => ?_) (fun c5 => ?_)
  · replace hF := it_t c5 hF
    exact nomatch hF
  · replace hF := it_f c5 hF
    refine lv_iload_n hx hb dJ7_append_2_24 rfl (lv_at hl 3 rfl) ?_
    refine lv_iload_n hx hb dJ7_append_2_25 rfl (lv_at hl 0 rfl) ?_
    refine lv_aload_n hx hb dJ7_append_2_26 rfl (lv_at hl 2 rfl) ?_
    obtain ⟨fs6, x6_, e6, f6, hF⟩ := gQ_s hF
    refine h_get (C := RJ8) (T := TJ8) (N := 4) hx hb hts in_J8 hown hGr hr e6 (by decide) rfl 0 (by decide) (hts _ q279) (fun _ h9 => h9) f6 dJ7_append_2_27 ?_
    obtain ⟨r7, u7, e7, hF⟩ := bnd_s hF
    have mm7 : hle u7 out.2 := (show Mo u7 _ from mo_pV hle_rf (fun h8 m8 => mo_ret m8)) _ hF
    obtain ⟨mc7, ms7, hmc7, hms7⟩ := up_of (moJ16_getChars D.2 n u4 p1 (x1_ + r2) x6_ _ e7)
    replace hc := cst_call hc hmc7 hms7
    refine h_calli (va_runS (As := [.int p1, .int (x1_ + r2), .ref x6_]) (rest := []) ⟨hx, hb, hml, hown, hts⟩ (mgJ16_getChars l D A u4 n p1 (x1_ + r2) x6_ _ e7 mc7 ms7 hmc7 hms7) (va_cwS 3 hts (lw_S q425 q426 q122 q427) rfl rfl rfl (by decide +kernel) ⟨Nat.le_of_ble_eq_true rfl, Nat.le_of_ble_eq_true rfl⟩) (h_preS hGr hr hS _) rfl rfl hl.1 rfl (lv_room (Nat.le_of_ble_eq_true rfl)) dJ7_append_2_30 ⟨(bud hc mm7 hmc hms).1, (bud hc mm7 hmc hms).2⟩) hS (fun rr uu H locs hw hr hS => ?_)
    obtain rfl : u7 = uu := (congrArg Prod.snd hw).symm
    obtain rfl : r7 = rr := (congrArg Prod.fst hw).symm
    refine lv_pop hx hb dJ7_append_2_33 rfl ?_
    refine lv_goto (tgt := 48) hx hb dJ7_append_2_34 (by decide) ?_
    refine lv_aload_n hx hb dJ7_append_2_48 rfl (lv_at hl 2 rfl) ?_
    refine lv_iload_n hx hb dJ7_append_2_49 rfl (lv_at hl 0 rfl) ?_
    obtain ⟨fs8, e8, k8, lo8, hF⟩ := pV_s hF
    obtain ⟨h8, eh8⟩ : ∃ z, z = hPut u7 a0 (.inr (12, fs8.set 3 (.int (x1_ + r2)))) := ⟨_, rfl⟩
    rw [← eh8] at hF
    refine h_put (C := RJ8) (T := TJ8) (N := 4) hx hb hts in_J8 tyJ8 tyJ8_ok nmJ8 hown hGr hr hS e8 (by decide) rfl 3 (by decide) (hts _ q283) (fun _ h9 => h9) rfl (tyJ8_ok 3 (by decide)) rfl rfl k8 lo8 dJ7_append_2_50 (fun H locs hr hS => ?_)
    rw [← eh8] at hr
    replace hc := cst_put hc eh8
    refine lv_aload_n hx hb dJ7_append_2_53 rfl (lv_at hl 2 rfl) ?_
    have bz := bud_r hc hF hmc hms
    refine W.widen (k := mc) (n := ms) bz.1 bz.2 ?_
    exact W.aret (v := .ref a0) hx hb hret (Or.inl ⟨_, rfl⟩) (Or.inr ⟨_, rfl⟩) (fun t ht hWm => ⟨⟨h8, a0, rfl, trivial, Option.some.inj hF, h_end hGr hr hS ht hWm⟩, hS.F ht⟩) hS.2.2 dJ7_append_2_54

def GJ7_setLength (h : Hp) (a0 : Nat) (p1 : Int32) : Option (Int32 × Hp) := if 0 ≤ p1 then gC h a0 12 (bnd (GJ7_ensureCapacityInternal h a0 p1) (fun r2 u2 => gI u2 a0 12 3 (fun x3_ => if p1 ≤ x3_ then gI u2 a0 12 3 (fun x5_ => if x5_ ≤ p1 then pV u2 a0 12 3 (.int p1) (fun h7 => some (0, h7)) else pV u2 a0 12 2 (.int 1) (fun h8 => pV h8 a0 12 3 (.int p1) (fun h9 => some (0, h9)))) else none))) else none
theorem moJ7_setLength (h : Hp) (a0 : Nat) (p1 : Int32) : Mo h (GJ7_setLength h a0 p1) := by
  unfold GJ7_setLength
  exact mo_ite (mo_gC (mo_bnd (moJ7_ensureCapacityInternal h a0 p1) hle_rf (fun r2 u2 m2 => mo_gI (fun x3_ => mo_ite (mo_gI (fun x5_ => mo_ite (mo_pV m2 (fun h7 m7 => mo_ret m7)) (mo_pV m2 (fun h8 m8 => mo_pV m8 (fun h9 m9 => mo_ret m9))))) (mo_no))))) (mo_no)
set_option maxHeartbeats 4000000 in
set_option maxRecDepth 100000 in
theorem mgJ7_setLength (l : Launch) (D : HD) (A : Nat → Prop) (h : Hp) (a0 : Nat) (p1 : Int32) (out : Int32 × Hp) (hF : GJ7_setLength h a0 p1 = some out) (mc ms : Nat) (hmc : hCc out.2 = hCc h + mc) (hms : hSl out.2 = hSl h + ms) : Met l yJ7_setLength (ws_ yJ7_setLength cJ7_setLength 2 none) ({ frames := 4, cells := mc, slots := ms, locals := 124 }) (va_Pc [.ref a0, .int p1] (hW D A h)) (va_Qv (fun u => (0, u) = out) (hW D A) A) mc ms A := by
  refine va_MetF (cc := cJ7_setLength) (maxL := 2) (ret := none) (by decide +kernel) rfl ?_
  intro p e s m args below meth c s₁ B hml hv
  obtain ⟨rfl, hr, hGr⟩ := hv
  have hx := B.exec
  have hb := B.bytes
  have hret := B.returns
  have hts := atoms_spec (ws := (ws_ yJ7_setLength cJ7_setLength 2 none)) B.pre
  have hts : ∀ w ∈ lw_all, w.before _ s = true := fun w h => hts w (List.mem_cons_of_mem _ h)
  have hown : s.vm.findClass RJ7 = some m.cls := findClass_of_methodNamed B.named
  have hlocks := B.notSynchronized
  have hS : va_S A s.heap s.heap [] := va_S.rf
  have hc : cst h 0 0 h := cst_0
  have hl := lv_entry ([.ref a0, .int p1]) (n := 2) (Nat.le_of_ble_eq_true rfl)
  rw [lg_entry_eq]
  generalize (lg_sl ([.ref a0, .int p1]) ++ List.replicate (2 - (lg_sl ([.ref a0, .int p1])).length) Slot.unset).toArray = ls at hl ⊢
  have hl : lv_has ls 2 [(0, .ref a0), (1, .int p1)] := hl
  unfold GJ7_setLength at hF
  refine lv_iload_n hx hb dJ7_setLength_0 rfl (lv_at hl 1 rfl) ?_
  refine lv_if_ge (tgt := 13) hx hb dJ7_setLength_1 (by decide) (fun c1 => ?_) (fun c1 => ?_)
  · replace hF := it_t c1 hF
    refine lv_aload_n hx hb dJ7_setLength_13 rfl (lv_at hl 0 rfl) ?_
    refine lv_iload_n hx hb dJ7_setLength_14 rfl (lv_at hl 1 rfl) ?_
    obtain ⟨fc2, ec2, hF⟩ := gC_s hF
    obtain ⟨r2, u2, e2, hF⟩ := bnd_s hF
    have mm2 : hle u2 out.2 := (show Mo u2 _ from mo_gI (fun x3_ => mo_ite (mo_gI (fun x5_ => mo_ite (mo_pV hle_rf (fun h7 m7 => mo_ret m7)) (mo_pV hle_rf (fun h8 m8 => mo_pV m8 (fun h9 m9 => mo_ret m9))))) (mo_no))) _ hF
    obtain ⟨mc2, ms2, hmc2, hms2⟩ := up_of (moJ7_ensureCapacityInternal h a0 p1 _ e2)
    replace hc := cst_call hc hmc2 hms2
    refine h_callv (va_runV (As := [.int p1]) (rest := []) ⟨hx, hb, hml, hown, hts⟩ (mgJ7_ensureCapacityInternal l D A h a0 p1 _ e2 mc2 ms2 hmc2 hms2) (h_cwP 1 hts (lw_meth q309) rfl rfl rfl (hts _ q306) (hts _ q111) (hts _ q308) (h_selp (hGr.nw q307 rfl) (hts _ q308) (by decide) (hGr.K.1 12 _ rfl).2.1 (hts _ q344) rfl) (by decide +kernel) ⟨Nat.le_of_ble_eq_true rfl, Nat.le_of_ble_eq_true rfl⟩) (h_preV hGr hr hS ec2 (by decide) (q := (RJ8, TJ8, 4)) rfl _) rfl rfl hl.1 rfl (lv_room (Nat.le_of_ble_eq_true rfl)) dJ7_setLength_15 ⟨(bud hc mm2 hmc hms).1, (bud hc mm2 hmc hms).2⟩) hS (fun uu H locs hw hr hS => ?_)
    obtain rfl : u2 = uu := (congrArg Prod.snd hw).symm
    refine lv_aload_n hx hb dJ7_setLength_18 rfl (lv_at hl 0 rfl) ?_
    obtain ⟨fs3, x3_, e3, f3, hF⟩ := gI_s hF
    refine h_get (C := RJ8) (T := TJ8) (N := 4) hx hb hts in_J8 hown hGr hr e3 (by decide) rfl 3 (by decide) (hts _ q283) (fun _ h9 => h9) f3 dJ7_setLength_19 ?_
    refine lv_iload_n hx hb dJ7_setLength_22 rfl (lv_at hl 1 rfl) ?_
    refine lv_icmp_ge (tgt := 63) hx hb dJ7_setLength_23 (by decide) (fun c4 => ?_) (fun c4 => ?_)
    · replace hF := it_t c4 hF
      refine lv_aload_n hx hb dJ7_setLength_63 rfl (lv_at hl 0 rfl) ?_
      obtain ⟨fs5, x5_, e5, f5, hF⟩ := gI_s hF
      refine h_get (C := RJ8) (T := TJ8) (N := 4) hx hb hts in_J8 hown hGr hr e5 (by decide) rfl 3 (by decide) (hts _ q283) (fun _ h9 => h9) f5 dJ7_setLength_64 ?_
      refine lv_iload_n hx hb dJ7_setLength_67 rfl (lv_at hl 1 rfl) ?_
      refine lv_icmp_le (tgt := 76) hx hb dJ7_setLength_68 (by decide) (fun c6 => ?_) (fun c6 => ?_)
      · replace hF := it_t c6 hF
        refine lv_aload_n hx hb dJ7_setLength_76 rfl (lv_at hl 0 rfl) ?_
        refine lv_iload_n hx hb dJ7_setLength_77 rfl (lv_at hl 1 rfl) ?_
        obtain ⟨fs7, e7, k7, lo7, hF⟩ := pV_s hF
        obtain ⟨h7, eh7⟩ : ∃ z, z = hPut u2 a0 (.inr (12, fs7.set 3 (.int p1))) := ⟨_, rfl⟩
        rw [← eh7] at hF
        refine h_put (C := RJ8) (T := TJ8) (N := 4) hx hb hts in_J8 tyJ8 tyJ8_ok nmJ8 hown hGr hr hS e7 (by decide) rfl 3 (by decide) (hts _ q283) (fun _ h9 => h9) rfl (tyJ8_ok 3 (by decide)) rfl rfl k7 lo7 dJ7_setLength_78 (fun H locs hr hS => ?_)
        rw [← eh7] at hr
        replace hc := cst_put hc eh7
        have bz := bud_r hc hF hmc hms
        refine W.widen (k := mc) (n := ms) bz.1 bz.2 ?_
        exact W.vret hx hb hret (fun t ht hWm => ⟨⟨h7, rfl, Option.some.inj hF, h_end hGr hr hS ht hWm⟩, hS.F ht⟩) hS.2.2 dJ7_setLength_81
      · replace hF := it_f c6 hF
        refine lv_aload_n hx hb dJ7_setLength_71 rfl (lv_at hl 0 rfl) ?_
        refine lv_iconst (v := 1) hx hb dJ7_setLength_72 (by decide) ?_
        obtain ⟨fs8, e8, k8, lo8, hF⟩ := pV_s hF
        obtain ⟨h8, eh8⟩ : ∃ z, z = hPut u2 a0 (.inr (12, fs8.set 2 (.int 1))) := ⟨_, rfl⟩
        rw [← eh8] at hF
        refine h_put (C := RJ8) (T := TJ8) (N := 4) hx hb hts in_J8 tyJ8 tyJ8_ok nmJ8 hown hGr hr hS e8 (by decide) rfl 2 (by decide) (hts _ q281) (fun _ h9 => h9) rfl (tyJ8_ok 2 (by decide)) rfl rfl k8 lo8 dJ7_setLength_73 (fun H locs hr hS => ?_)
        rw [← eh8] at hr
        replace hc := cst_put hc eh8
        refine lv_aload_n hx hb dJ7_setLength_76 rfl (lv_at hl 0 rfl) ?_
        refine lv_iload_n hx hb dJ7_setLength_77 rfl (lv_at hl 1 rfl) ?_
        obtain ⟨fs9, e9, k9, lo9, hF⟩ := pV_s hF
        obtain ⟨h9, eh9⟩ : ∃ z, z = hPut h8 a0 (.inr (12, fs9.set 3 (.int p1))) := ⟨_, rfl⟩
        rw [← eh9] at hF
        refine h_put (C := RJ8) (T := TJ8) (N := 4) hx hb hts in_J8 tyJ8 tyJ8_ok nmJ8 hown hGr hr hS e9 (by decide) rfl 3 (by decide) (hts _ q283) (fun _ h9 => h9) rfl (tyJ8_ok 3 (by decide)) rfl rfl k9 lo9 dJ7_setLength_78 (fun H locs hr hS => ?_)
        rw [← eh9] at hr
        replace hc := cst_put hc eh9
        have bz := bud_r hc hF hmc hms
        refine W.widen (k := mc) (n := ms) bz.1 bz.2 ?_
        exact W.vret hx hb hret (fun t ht hWm => ⟨⟨h9, rfl, Option.some.inj hF, h_end hGr hr hS ht hWm⟩, hS.F ht⟩) hS.2.2 dJ7_setLength_81
    · replace hF := it_f c4 hF
      exact nomatch hF
  · replace hF := it_f c1 hF
    exact nomatch hF

def GJ7_length (h : Hp) (a0 : Nat) : Option (Int32 × Hp) := gI h a0 12 3 (fun x1_ => some (x1_, h))
theorem moJ7_length (h : Hp) (a0 : Nat) : Mo h (GJ7_length h a0) := by
  unfold GJ7_length
  exact mo_gI (fun x1_ => mo_ret hle_rf)
set_option maxHeartbeats 4000000 in
set_option maxRecDepth 100000 in
theorem mgJ7_length (l : Launch) (D : HD) (A : Nat → Prop) (h : Hp) (a0 : Nat) (out : Int32 × Hp) (hF : GJ7_length h a0 = some out) (mc ms : Nat) (hmc : hCc out.2 = hCc h + mc) (hms : hSl out.2 = hSl h + ms) : Met l yJ7_length (ws_ yJ7_length cJ7_length 1 (some .int)) ({ frames := 0, cells := mc, slots := ms, locals := 0 }) (va_Pc [.ref a0] (hW D A h)) (va_Qi (fun r u => (r, u) = out) (hW D A) A) mc ms A := by
  refine va_MetF (cc := cJ7_length) (maxL := 1) (ret := (some .int)) (by decide +kernel) rfl ?_
  intro p e s m args below meth c s₁ B hml hv
  obtain ⟨rfl, hr, hGr⟩ := hv
  have hx := B.exec
  have hb := B.bytes
  have hret := B.returns
  have hts := atoms_spec (ws := (ws_ yJ7_length cJ7_length 1 (some .int))) B.pre
  have hts : ∀ w ∈ lw_all, w.before _ s = true := fun w h => hts w (List.mem_cons_of_mem _ h)
  have hown : s.vm.findClass RJ7 = some m.cls := findClass_of_methodNamed B.named
  have hlocks := B.notSynchronized
  have hS : va_S A s.heap s.heap [] := va_S.rf
  have hc : cst h 0 0 h := cst_0
  have hl := lv_entry ([.ref a0]) (n := 1) (Nat.le_of_ble_eq_true rfl)
  rw [lg_entry_eq]
  generalize (lg_sl ([.ref a0]) ++ List.replicate (1 - (lg_sl ([.ref a0])).length) Slot.unset).toArray = ls at hl ⊢
  have hl : lv_has ls 1 [(0, .ref a0)] := hl
  unfold GJ7_length at hF
  refine lv_aload_n hx hb dJ7_length_0 rfl (lv_at hl 0 rfl) ?_
  obtain ⟨fs1, x1_, e1, f1, hF⟩ := gI_s hF
  refine h_get (C := RJ8) (T := TJ8) (N := 4) hx hb hts in_J8 hown hGr hr e1 (by decide) rfl 3 (by decide) (hts _ q283) (fun _ h9 => h9) f1 dJ7_length_1 ?_
  have bz := bud_r hc hF hmc hms
  refine W.widen (k := mc) (n := ms) bz.1 bz.2 ?_
  exact W.iret (v := x1_) hx hb hret (fun t ht hWm => ⟨⟨x1_, h, rfl, Option.some.inj hF, h_end hGr hr hS ht hWm⟩, hS.F ht⟩) hS.2.2 dJ7_length_4

def GJ7_charAt (h : Hp) (a0 : Nat) (p1 : Int32) : Option (Int32 × Hp) := gI h a0 12 1 (fun x1_ => gQ h a0 12 0 (fun x2_ => gI h a0 12 3 (fun x3_ => aL h x2_ (fun x4_ => bnd (GJ9_checkIndex h p1 (if (x4_ >>> (x1_ &&& 31)) < x3_ then (x4_ >>> (x1_ &&& 31)) else x3_)) (fun r6 u6 => if x1_ = 0 then aI u6 x2_ 1 p1 (fun x8_ => gd (chB ((((x8_ &&& 255)).toUInt32 % 65536).toInt32)) (some (((((x8_ &&& 255)).toUInt32 % 65536).toInt32), u6))) else none)))))
theorem moJ7_charAt (h : Hp) (a0 : Nat) (p1 : Int32) : Mo h (GJ7_charAt h a0 p1) := by
  unfold GJ7_charAt
  exact mo_gI (fun x1_ => mo_gQ (fun x2_ => mo_gI (fun x3_ => mo_aL (fun x4_ => mo_bnd (moJ9_checkIndex h p1 (if (x4_ >>> (x1_ &&& 31)) < x3_ then (x4_ >>> (x1_ &&& 31)) else x3_)) hle_rf (fun r6 u6 m6 => mo_ite (mo_aI (fun x8_ => mo_gd (mo_ret m6))) (mo_no))))))
set_option maxHeartbeats 4000000 in
set_option maxRecDepth 100000 in
theorem mgJ7_charAt (l : Launch) (D : HD) (A : Nat → Prop) (h : Hp) (a0 : Nat) (p1 : Int32) (out : Int32 × Hp) (hF : GJ7_charAt h a0 p1 = some out) (mc ms : Nat) (hmc : hCc out.2 = hCc h + mc) (hms : hSl out.2 = hSl h + ms) : Met l yJ7_charAt (ws_ yJ7_charAt cJ7_charAt 5 (some .char)) ({ frames := 2, cells := mc, slots := ms, locals := 43 }) (va_Pc [.ref a0, .int p1] (hW D A h)) (va_Qi (fun r u => (r, u) = out) (hW D A) A) mc ms A := by
  refine va_MetF (cc := cJ7_charAt) (maxL := 5) (ret := (some .char)) (by decide +kernel) rfl ?_
  intro p e s m args below meth c s₁ B hml hv
  obtain ⟨rfl, hr, hGr⟩ := hv
  have hx := B.exec
  have hb := B.bytes
  have hret := B.returns
  have hts := atoms_spec (ws := (ws_ yJ7_charAt cJ7_charAt 5 (some .char))) B.pre
  have hts : ∀ w ∈ lw_all, w.before _ s = true := fun w h => hts w (List.mem_cons_of_mem _ h)
  have hown : s.vm.findClass RJ7 = some m.cls := findClass_of_methodNamed B.named
  have hlocks := B.notSynchronized
  have hS : va_S A s.heap s.heap [] := va_S.rf
  have hc : cst h 0 0 h := cst_0
  have hl := lv_entry ([.ref a0, .int p1]) (n := 5) (Nat.le_of_ble_eq_true rfl)
  rw [lg_entry_eq]
  generalize (lg_sl ([.ref a0, .int p1]) ++ List.replicate (5 - (lg_sl ([.ref a0, .int p1])).length) Slot.unset).toArray = ls at hl ⊢
  have hl : lv_has ls 5 [(0, .ref a0), (1, .int p1)] := hl
  unfold GJ7_charAt at hF
  refine lv_aload_n hx hb dJ7_charAt_0 rfl (lv_at hl 0 rfl) ?_
  obtain ⟨fs1, x1_, e1, f1, hF⟩ := gI_s hF
  refine h_get (C := RJ8) (T := TJ8) (N := 4) hx hb hts in_J8 hown hGr hr e1 (by decide) rfl 1 (by decide) (hts _ q280) (fun _ h9 => h9) f1 dJ7_charAt_1 ?_
  refine lv_istore_n (lv' := [(2, .int x1_), (0, .ref a0), (1, .int p1)]) hx hb dJ7_charAt_4 rfl hl (by decide) rfl (fun ls hl => ?_)
  refine lv_aload_n hx hb dJ7_charAt_5 rfl (lv_at hl 1 rfl) ?_
  obtain ⟨fs2, x2_, e2, f2, hF⟩ := gQ_s hF
  refine h_get (C := RJ8) (T := TJ8) (N := 4) hx hb hts in_J8 hown hGr hr e2 (by decide) rfl 0 (by decide) (hts _ q279) (fun _ h9 => h9) f2 dJ7_charAt_6 ?_
  refine lv_astore_n (lv' := [(3, .ref x2_), (2, .int x1_), (0, .ref a0), (1, .int p1)]) hx hb dJ7_charAt_9 rfl hl (by decide) rfl (fun ls hl => ?_)
  refine lv_aload_n hx hb dJ7_charAt_10 rfl (lv_at hl 2 rfl) ?_
  obtain ⟨fs3, x3_, e3, f3, hF⟩ := gI_s hF
  refine h_get (C := RJ8) (T := TJ8) (N := 4) hx hb hts in_J8 hown hGr hr e3 (by decide) rfl 3 (by decide) (hts _ q283) (fun _ h9 => h9) f3 dJ7_charAt_11 ?_
  refine lv_aload_n hx hb dJ7_charAt_14 rfl (lv_at hl 0 rfl) ?_
  obtain ⟨k4, y4, e4, g4, hF⟩ := aL_s hF
  obtain ⟨x4_, ex4⟩ : ∃ z, z = Int32.ofNat y4.1 := ⟨_, rfl⟩
  rw [← ex4] at hF
  refine h_alen hx hb hGr hr e4 g4 dJ7_charAt_15 ?_
  rw [← ex4]
  refine lv_iload_n hx hb dJ7_charAt_16 rfl (lv_at hl 1 rfl) ?_
  refine lv_ishr hx hb dJ7_charAt_17 ?_
  have mm5 : hle h out.2 := (show Mo h _ from mo_bnd (moJ9_checkIndex h p1 (if (x4_ >>> (x1_ &&& 31)) < x3_ then (x4_ >>> (x1_ &&& 31)) else x3_)) hle_rf (fun r6 u6 m6 => mo_ite (mo_aI (fun x8_ => mo_gd (mo_ret m6))) (mo_no))) _ hF
  refine va_mmin hx hb (by rw [hml]; exact hl.1.symm) hown (hts _ q1933) (hts _ q336) (hts _ q116) (hts _ q337) (Nat.le_of_ble_eq_true rfl) (Nat.le_of_ble_eq_true rfl) (bud hc mm5 hmc hms).1 (bud hc mm5 hmc hms).2 dJ7_charAt_18 ?_
  refine lv_istore (lv' := [(4, .int (if (x4_ >>> (x1_ &&& 31)) < x3_ then (x4_ >>> (x1_ &&& 31)) else x3_)), (3, .ref x2_), (2, .int x1_), (0, .ref a0), (1, .int p1)]) hx hb dJ7_charAt_21 hl (by decide) rfl (fun ls hl => ?_)
  refine lv_iload_n hx hb dJ7_charAt_23 rfl (lv_at hl 4 rfl) ?_
  refine lv_iload hx hb dJ7_charAt_24 (lv_at hl 0 rfl) ?_
  obtain ⟨r6, u6, e6, hF⟩ := bnd_s hF
  have mm6 : hle u6 out.2 := (show Mo u6 _ from mo_ite (mo_aI (fun x8_ => mo_gd (mo_ret hle_rf))) (mo_no)) _ hF
  obtain ⟨mc6, ms6, hmc6, hms6⟩ := up_of (moJ9_checkIndex h p1 (if (x4_ >>> (x1_ &&& 31)) < x3_ then (x4_ >>> (x1_ &&& 31)) else x3_) _ e6)
  replace hc := cst_call hc hmc6 hms6
  refine h_callv (va_runS (As := [.int p1, .int (if (x4_ >>> (x1_ &&& 31)) < x3_ then (x4_ >>> (x1_ &&& 31)) else x3_)]) (rest := []) ⟨hx, hb, hml, hown, hts⟩ (mgJ9_checkIndex l D A h p1 (if (x4_ >>> (x1_ &&& 31)) < x3_ then (x4_ >>> (x1_ &&& 31)) else x3_) _ e6 mc6 ms6 hmc6 hms6) (va_cwS 2 hts (lw_S q1934 q1295 q113 q1296) rfl rfl rfl (by decide +kernel) ⟨Nat.le_of_ble_eq_true rfl, Nat.le_of_ble_eq_true rfl⟩) (h_preS hGr hr hS _) rfl rfl hl.1 rfl (lv_room (Nat.le_of_ble_eq_true rfl)) dJ7_charAt_26 ⟨(bud hc mm6 hmc hms).1, (bud hc mm6 hmc hms).2⟩) hS (fun uu H locs hw hr hS => ?_)
  obtain rfl : u6 = uu := (congrArg Prod.snd hw).symm
  refine lv_iload_n hx hb dJ7_charAt_29 rfl (lv_at hl 2 rfl) ?_
  refine lv_if_ne (tgt := 42) hx hb dJ7_charAt_30 (by decide) (fun c7 => ?_) (fun c7 => ?_)
  · replace hF := it_f c7 hF
    exact nomatch hF
  · replace hF := it_t c7 hF
    refine lv_aload_n hx hb dJ7_charAt_33 rfl (lv_at hl 1 rfl) ?_
    refine lv_iload_n hx hb dJ7_charAt_34 rfl (lv_at hl 4 rfl) ?_
    obtain ⟨n8, f8, e8, g8, hF⟩ := aI_s hF
    obtain ⟨x8_, ex8⟩ : ∃ z, z = f8 (p1).toNatClampNeg := ⟨_, rfl⟩
    rw [← ex8] at hF
    refine h_bald hx hb hGr hr 1 rfl e8 g8 dJ7_charAt_35 ?_
    rw [← ex8]
    refine lv_sipush (v := 255) hx hb dJ7_charAt_36 (by decide) ?_
    refine lv_iand hx hb dJ7_charAt_39 ?_
    refine lv_i2c (v := (((x8_ &&& 255)).toUInt32 % 65536).toInt32) hx hb dJ7_charAt_40 rfl ?_
    obtain ⟨g9, hF⟩ := gd_s hF
    have bz := bud_r hc hF hmc hms
    refine W.widen (k := mc) (n := ms) bz.1 bz.2 ?_
    exact W.zret (v := ((((x8_ &&& 255)).toUInt32 % 65536).toInt32)) hx hb hret (ch_of g9) (fun t ht hWm => ⟨⟨((((x8_ &&& 255)).toUInt32 % 65536).toInt32), u6, rfl, Option.some.inj hF, h_end hGr hr hS ht hWm⟩, hS.F ht⟩) hS.2.2 dJ7_charAt_41

def GJ7_getValue (h : Hp) (a0 : Nat) : Option (Nat × Hp) := gQ h a0 12 0 (fun x1_ => some (x1_, h))
theorem moJ7_getValue (h : Hp) (a0 : Nat) : Mo h (GJ7_getValue h a0) := by
  unfold GJ7_getValue
  exact mo_gQ (fun x1_ => mo_ret hle_rf)
set_option maxHeartbeats 4000000 in
set_option maxRecDepth 100000 in
theorem mgJ7_getValue (l : Launch) (D : HD) (A : Nat → Prop) (h : Hp) (a0 : Nat) (out : Nat × Hp) (hF : GJ7_getValue h a0 = some out) (mc ms : Nat) (hmc : hCc out.2 = hCc h + mc) (hms : hSl out.2 = hSl h + ms) : Met l yJ7_getValue (ws_ yJ7_getValue cJ7_getValue 1 (some (.array .byte))) ({ frames := 0, cells := mc, slots := ms, locals := 0 }) (va_Pc [.ref a0] (hW D A h)) (va_Qr (fun _ : Hp => True) (fun u r t => (r, u) = out ∧ hW D A u t) A) mc ms A := by
  refine va_MetF (cc := cJ7_getValue) (maxL := 1) (ret := (some (.array .byte))) (by decide +kernel) rfl ?_
  intro p e s m args below meth c s₁ B hml hv
  obtain ⟨rfl, hr, hGr⟩ := hv
  have hx := B.exec
  have hb := B.bytes
  have hret := B.returns
  have hts := atoms_spec (ws := (ws_ yJ7_getValue cJ7_getValue 1 (some (.array .byte)))) B.pre
  have hts : ∀ w ∈ lw_all, w.before _ s = true := fun w h => hts w (List.mem_cons_of_mem _ h)
  have hown : s.vm.findClass RJ7 = some m.cls := findClass_of_methodNamed B.named
  have hlocks := B.notSynchronized
  have hS : va_S A s.heap s.heap [] := va_S.rf
  have hc : cst h 0 0 h := cst_0
  have hl := lv_entry ([.ref a0]) (n := 1) (Nat.le_of_ble_eq_true rfl)
  rw [lg_entry_eq]
  generalize (lg_sl ([.ref a0]) ++ List.replicate (1 - (lg_sl ([.ref a0])).length) Slot.unset).toArray = ls at hl ⊢
  have hl : lv_has ls 1 [(0, .ref a0)] := hl
  unfold GJ7_getValue at hF
  refine lv_aload_n hx hb dJ7_getValue_0 rfl (lv_at hl 0 rfl) ?_
  obtain ⟨fs1, x1_, e1, f1, hF⟩ := gQ_s hF
  refine h_get (C := RJ8) (T := TJ8) (N := 4) hx hb hts in_J8 hown hGr hr e1 (by decide) rfl 0 (by decide) (hts _ q279) (fun _ h9 => h9) f1 dJ7_getValue_1 ?_
  have bz := bud_r hc hF hmc hms
  refine W.widen (k := mc) (n := ms) bz.1 bz.2 ?_
  exact W.aret (v := .ref x1_) hx hb hret (Or.inr ⟨_, rfl⟩) (Or.inr ⟨_, rfl⟩) (fun t ht hWm => ⟨⟨h, x1_, rfl, trivial, Option.some.inj hF, h_end hGr hr hS ht hWm⟩, hS.F ht⟩) hS.2.2 dJ7_getValue_4

def GJ8_init (h : Hp) (a0 : Nat) : Option (Int32 × Hp) := bnd (GJ7_init h a0 (16 : Int32)) (fun r1 u1 => some (0, u1))
theorem moJ8_init (h : Hp) (a0 : Nat) : Mo h (GJ8_init h a0) := by
  unfold GJ8_init
  exact mo_bnd (moJ7_init h a0 (16 : Int32)) hle_rf (fun r1 u1 m1 => mo_ret m1)
set_option maxHeartbeats 4000000 in
set_option maxRecDepth 100000 in
theorem mgJ8_init (l : Launch) (D : HD) (A : Nat → Prop) (h : Hp) (a0 : Nat) (out : Int32 × Hp) (hF : GJ8_init h a0 = some out) (mc ms : Nat) (hmc : hCc out.2 = hCc h + mc) (hms : hSl out.2 = hSl h + ms) : Met l yJ8_init (ws_ yJ8_init cJ8_init 1 none) ({ frames := 2, cells := mc, slots := ms, locals := 41 }) (va_Pc [.ref a0] (hW D A h)) (va_Qv (fun u => (0, u) = out) (hW D A) A) mc ms A := by
  refine va_MetF (cc := cJ8_init) (maxL := 1) (ret := none) (by decide +kernel) rfl ?_
  intro p e s m args below meth c s₁ B hml hv
  obtain ⟨rfl, hr, hGr⟩ := hv
  have hx := B.exec
  have hb := B.bytes
  have hret := B.returns
  have hts := atoms_spec (ws := (ws_ yJ8_init cJ8_init 1 none)) B.pre
  have hts : ∀ w ∈ lw_all, w.before _ s = true := fun w h => hts w (List.mem_cons_of_mem _ h)
  have hown : s.vm.findClass RJ8 = some m.cls := findClass_of_methodNamed B.named
  have hlocks := B.notSynchronized
  have hin : meth.name = "<init>" := (name_of_methodNamed B.named B.method).1
  have hS : va_S A s.heap s.heap [] := va_S.rf
  have hc : cst h 0 0 h := cst_0
  have hl := lv_entry ([.ref a0]) (n := 1) (Nat.le_of_ble_eq_true rfl)
  rw [lg_entry_eq]
  generalize (lg_sl ([.ref a0]) ++ List.replicate (1 - (lg_sl ([.ref a0])).length) Slot.unset).toArray = ls at hl ⊢
  have hl : lv_has ls 1 [(0, .ref a0)] := hl
  unfold GJ8_init at hF
  refine lv_aload_n hx hb dJ8_init_0 rfl (lv_at hl 0 rfl) ?_
  refine lv_bipush (v := 16) hx hb dJ8_init_1 (by decide) ?_
  obtain ⟨r1, u1, e1, hF⟩ := bnd_s hF
  have mm1 : hle u1 out.2 := (show Mo u1 _ from mo_ret hle_rf) _ hF
  obtain ⟨mc1, ms1, hmc1, hms1⟩ := up_of (moJ7_init h a0 (16 : Int32) _ e1)
  replace hc := cst_call hc hmc1 hms1
  refine h_callv (va_runI (As := [.int 16]) (rest := []) ⟨hx, hb, hml, hown, hts⟩ (mgJ7_init l D A h a0 (16 : Int32) _ e1 mc1 ms1 hmc1 hms1) (cwI 1 hts (lw_meth q268) rfl rfl rfl (hts _ q111) (hts _ q266) (hts _ q267) rfl (by decide +kernel) ⟨Nat.le_of_ble_eq_true rfl, Nat.le_of_ble_eq_true rfl⟩) (h_preS hGr hr hS _) rfl rfl hl.1 rfl (lv_room (Nat.le_of_ble_eq_true rfl)) dJ8_init_3 ⟨(bud hc mm1 hmc hms).1, (bud hc mm1 hmc hms).2⟩) hS (fun uu H locs hw hr hS => ?_)
  obtain rfl : u1 = uu := (congrArg Prod.snd hw).symm
  have bz := bud_r hc hF hmc hms
  refine W.widen (k := mc) (n := ms) bz.1 bz.2 ?_
  exact W.vret hx hb hret (fun t ht hWm => ⟨⟨u1, rfl, Option.some.inj hF, h_end hGr hr hS ht hWm⟩, hS.F ht⟩) hS.2.2 dJ8_init_6

def GJ8_append_3 (h : Hp) (a0 : Nat) (p1 : Int32) : Option (Nat × Hp) := gC h a0 12 (bnd (GJ7_append_3 h a0 p1) (fun r1 u1 => some (a0, u1)))
theorem moJ8_append_3 (h : Hp) (a0 : Nat) (p1 : Int32) : Mo h (GJ8_append_3 h a0 p1) := by
  unfold GJ8_append_3
  exact mo_gC (mo_bnd (moJ7_append_3 h a0 p1) hle_rf (fun r1 u1 m1 => mo_ret m1))
set_option maxHeartbeats 4000000 in
set_option maxRecDepth 100000 in
theorem mgJ8_append_3 (l : Launch) (D : HD) (A : Nat → Prop) (h : Hp) (a0 : Nat) (p1 : Int32) (out : Nat × Hp) (hF : GJ8_append_3 h a0 p1 = some out) (mc ms : Nat) (hmc : hCc out.2 = hCc h + mc) (hms : hSl out.2 = hSl h + ms) : Met l yJ8_append_3 (ws_ yJ8_append_3 cJ8_append_3 2 (some (.object "java/lang/StringBuilder"))) ({ frames := 5, cells := mc, slots := ms, locals := 145 }) (va_Pc [.ref a0, .int p1] (hW D A h)) (va_Qr (fun _ : Hp => True) (fun u r t => (r, u) = out ∧ hW D A u t) A) mc ms A := by
  refine va_MetF (cc := cJ8_append_3) (maxL := 2) (ret := (some (.object "java/lang/StringBuilder"))) (by decide +kernel) rfl ?_
  intro p e s m args below meth c s₁ B hml hv
  obtain ⟨rfl, hr, hGr⟩ := hv
  have hx := B.exec
  have hb := B.bytes
  have hret := B.returns
  have hts := atoms_spec (ws := (ws_ yJ8_append_3 cJ8_append_3 2 (some (.object "java/lang/StringBuilder")))) B.pre
  have hts : ∀ w ∈ lw_all, w.before _ s = true := fun w h => hts w (List.mem_cons_of_mem _ h)
  have hown : s.vm.findClass RJ8 = some m.cls := findClass_of_methodNamed B.named
  have hlocks := B.notSynchronized
  have hS : va_S A s.heap s.heap [] := va_S.rf
  have hc : cst h 0 0 h := cst_0
  have hl := lv_entry ([.ref a0, .int p1]) (n := 2) (Nat.le_of_ble_eq_true rfl)
  rw [lg_entry_eq]
  generalize (lg_sl ([.ref a0, .int p1]) ++ List.replicate (2 - (lg_sl ([.ref a0, .int p1])).length) Slot.unset).toArray = ls at hl ⊢
  have hl : lv_has ls 2 [(0, .ref a0), (1, .int p1)] := hl
  unfold GJ8_append_3 at hF
  refine lv_aload_n hx hb dJ8_append_3_0 rfl (lv_at hl 0 rfl) ?_
  refine lv_iload_n hx hb dJ8_append_3_1 rfl (lv_at hl 1 rfl) ?_
  obtain ⟨fc1, ec1, hF⟩ := gC_s hF
  obtain ⟨r1, u1, e1, hF⟩ := bnd_s hF
  have mm1 : hle u1 out.2 := (show Mo u1 _ from mo_ret hle_rf) _ hF
  obtain ⟨mc1, ms1, hmc1, hms1⟩ := up_of (moJ7_append_3 h a0 p1 _ e1)
  replace hc := cst_call hc hmc1 hms1
  refine h_callr (va_runSU (hGr.K.1 12 _ rfl).2 (As := [.int p1]) (rest := []) ⟨hx, hb, hml, hown, hts⟩ (mgJ7_append_3 l D A h a0 p1 _ e1 mc1 ms1 hmc1 hms1) (va_cwSU 1 hts (lw_SU q1282 q2494 q292 q1283 q111 q1284) rfl rfl rfl (by decide +kernel) ⟨Nat.le_of_ble_eq_true rfl, Nat.le_of_ble_eq_true rfl⟩) (h_preV hGr hr hS ec1 (by decide) (q := (RJ8, TJ8, 4)) rfl _) rfl rfl hl.1 rfl (lv_room (Nat.le_of_ble_eq_true rfl)) dJ8_append_3_2 ⟨(bud hc mm1 hmc hms).1, (bud hc mm1 hmc hms).2⟩) hS (fun rr uu H locs hw hr hS => ?_)
  obtain rfl : u1 = uu := (congrArg Prod.snd hw).symm
  obtain rfl : r1 = rr := (congrArg Prod.fst hw).symm
  refine lv_pop hx hb dJ8_append_3_5 rfl ?_
  refine lv_aload_n hx hb dJ8_append_3_6 rfl (lv_at hl 0 rfl) ?_
  have bz := bud_r hc hF hmc hms
  refine W.widen (k := mc) (n := ms) bz.1 bz.2 ?_
  exact W.aret (v := .ref a0) hx hb hret (Or.inl ⟨_, rfl⟩) (Or.inr ⟨_, rfl⟩) (fun t ht hWm => ⟨⟨u1, a0, rfl, trivial, Option.some.inj hF, h_end hGr hr hS ht hWm⟩, hS.F ht⟩) hS.2.2 dJ8_append_3_7

def GJ8_append_2 (kz : Nat → Nat) (n : Nat) (h : Hp) (a0 : Nat) (p1 : Int32) : Option (Nat × Hp) := gC h a0 12 (bnd (GJ7_append_2 kz n h a0 p1) (fun r1 u1 => some (a0, u1)))
theorem moJ8_append_2 (kz : Nat → Nat) (n : Nat) (h : Hp) (a0 : Nat) (p1 : Int32) : Mo h (GJ8_append_2 kz n h a0 p1) := by
  unfold GJ8_append_2
  exact mo_gC (mo_bnd (moJ7_append_2 kz n h a0 p1) hle_rf (fun r1 u1 m1 => mo_ret m1))
set_option maxHeartbeats 4000000 in
set_option maxRecDepth 100000 in
theorem mgJ8_append_2 (l : Launch) (D : HD) (A : Nat → Prop) (h : Hp) (n : Nat) (a0 : Nat) (p1 : Int32) (out : Nat × Hp) (hF : GJ8_append_2 D.2 n h a0 p1 = some out) (mc ms : Nat) (hmc : hCc out.2 = hCc h + mc) (hms : hSl out.2 = hSl h + ms) : Met l yJ8_append_2 (ws_ yJ8_append_2 cJ8_append_2 2 (some (.object "java/lang/StringBuilder"))) ({ frames := 5, cells := mc, slots := ms, locals := 147 }) (va_Pc [.ref a0, .int p1] (hW D A h)) (va_Qr (fun _ : Hp => True) (fun u r t => (r, u) = out ∧ hW D A u t) A) mc ms A := by
  refine va_MetF (cc := cJ8_append_2) (maxL := 2) (ret := (some (.object "java/lang/StringBuilder"))) (by decide +kernel) rfl ?_
  intro p e s m args below meth c s₁ B hml hv
  obtain ⟨rfl, hr, hGr⟩ := hv
  have hx := B.exec
  have hb := B.bytes
  have hret := B.returns
  have hts := atoms_spec (ws := (ws_ yJ8_append_2 cJ8_append_2 2 (some (.object "java/lang/StringBuilder")))) B.pre
  have hts : ∀ w ∈ lw_all, w.before _ s = true := fun w h => hts w (List.mem_cons_of_mem _ h)
  have hown : s.vm.findClass RJ8 = some m.cls := findClass_of_methodNamed B.named
  have hlocks := B.notSynchronized
  have hS : va_S A s.heap s.heap [] := va_S.rf
  have hc : cst h 0 0 h := cst_0
  have hl := lv_entry ([.ref a0, .int p1]) (n := 2) (Nat.le_of_ble_eq_true rfl)
  rw [lg_entry_eq]
  generalize (lg_sl ([.ref a0, .int p1]) ++ List.replicate (2 - (lg_sl ([.ref a0, .int p1])).length) Slot.unset).toArray = ls at hl ⊢
  have hl : lv_has ls 2 [(0, .ref a0), (1, .int p1)] := hl
  unfold GJ8_append_2 at hF
  refine lv_aload_n hx hb dJ8_append_2_0 rfl (lv_at hl 0 rfl) ?_
  refine lv_iload_n hx hb dJ8_append_2_1 rfl (lv_at hl 1 rfl) ?_
  obtain ⟨fc1, ec1, hF⟩ := gC_s hF
  obtain ⟨r1, u1, e1, hF⟩ := bnd_s hF
  have mm1 : hle u1 out.2 := (show Mo u1 _ from mo_ret hle_rf) _ hF
  obtain ⟨mc1, ms1, hmc1, hms1⟩ := up_of (moJ7_append_2 D.2 n h a0 p1 _ e1)
  replace hc := cst_call hc hmc1 hms1
  refine h_callr (va_runSU (hGr.K.1 12 _ rfl).2 (As := [.int p1]) (rest := []) ⟨hx, hb, hml, hown, hts⟩ (mgJ7_append_2 l D A h n a0 p1 _ e1 mc1 ms1 hmc1 hms1) (va_cwSU 1 hts (lw_SU q419 q2492 q292 q420 q111 q421) rfl rfl rfl (by decide +kernel) ⟨Nat.le_of_ble_eq_true rfl, Nat.le_of_ble_eq_true rfl⟩) (h_preV hGr hr hS ec1 (by decide) (q := (RJ8, TJ8, 4)) rfl _) rfl rfl hl.1 rfl (lv_room (Nat.le_of_ble_eq_true rfl)) dJ8_append_2_2 ⟨(bud hc mm1 hmc hms).1, (bud hc mm1 hmc hms).2⟩) hS (fun rr uu H locs hw hr hS => ?_)
  obtain rfl : u1 = uu := (congrArg Prod.snd hw).symm
  obtain rfl : r1 = rr := (congrArg Prod.fst hw).symm
  refine lv_pop hx hb dJ8_append_2_5 rfl ?_
  refine lv_aload_n hx hb dJ8_append_2_6 rfl (lv_at hl 0 rfl) ?_
  have bz := bud_r hc hF hmc hms
  refine W.widen (k := mc) (n := ms) bz.1 bz.2 ?_
  exact W.aret (v := .ref a0) hx hb hret (Or.inl ⟨_, rfl⟩) (Or.inr ⟨_, rfl⟩) (fun t ht hWm => ⟨⟨u1, a0, rfl, trivial, Option.some.inj hF, h_end hGr hr hS ht hWm⟩, hS.F ht⟩) hS.2.2 dJ8_append_2_7

def GJ8_setLength (h : Hp) (a0 : Nat) (p1 : Int32) : Option (Int32 × Hp) := gC h a0 12 (bnd (GJ7_setLength h a0 p1) (fun r1 u1 => some (0, u1)))
theorem moJ8_setLength (h : Hp) (a0 : Nat) (p1 : Int32) : Mo h (GJ8_setLength h a0 p1) := by
  unfold GJ8_setLength
  exact mo_gC (mo_bnd (moJ7_setLength h a0 p1) hle_rf (fun r1 u1 m1 => mo_ret m1))
set_option maxHeartbeats 4000000 in
set_option maxRecDepth 100000 in
theorem mgJ8_setLength (l : Launch) (D : HD) (A : Nat → Prop) (h : Hp) (a0 : Nat) (p1 : Int32) (out : Int32 × Hp) (hF : GJ8_setLength h a0 p1 = some out) (mc ms : Nat) (hmc : hCc out.2 = hCc h + mc) (hms : hSl out.2 = hSl h + ms) : Met l yJ8_setLength (ws_ yJ8_setLength cJ8_setLength 2 none) ({ frames := 5, cells := mc, slots := ms, locals := 145 }) (va_Pc [.ref a0, .int p1] (hW D A h)) (va_Qv (fun u => (0, u) = out) (hW D A) A) mc ms A := by
  refine va_MetF (cc := cJ8_setLength) (maxL := 2) (ret := none) (by decide +kernel) rfl ?_
  intro p e s m args below meth c s₁ B hml hv
  obtain ⟨rfl, hr, hGr⟩ := hv
  have hx := B.exec
  have hb := B.bytes
  have hret := B.returns
  have hts := atoms_spec (ws := (ws_ yJ8_setLength cJ8_setLength 2 none)) B.pre
  have hts : ∀ w ∈ lw_all, w.before _ s = true := fun w h => hts w (List.mem_cons_of_mem _ h)
  have hown : s.vm.findClass RJ8 = some m.cls := findClass_of_methodNamed B.named
  have hlocks := B.notSynchronized
  have hS : va_S A s.heap s.heap [] := va_S.rf
  have hc : cst h 0 0 h := cst_0
  have hl := lv_entry ([.ref a0, .int p1]) (n := 2) (Nat.le_of_ble_eq_true rfl)
  rw [lg_entry_eq]
  generalize (lg_sl ([.ref a0, .int p1]) ++ List.replicate (2 - (lg_sl ([.ref a0, .int p1])).length) Slot.unset).toArray = ls at hl ⊢
  have hl : lv_has ls 2 [(0, .ref a0), (1, .int p1)] := hl
  unfold GJ8_setLength at hF
  refine lv_aload_n hx hb dJ8_setLength_0 rfl (lv_at hl 0 rfl) ?_
  refine lv_iload_n hx hb dJ8_setLength_1 rfl (lv_at hl 1 rfl) ?_
  obtain ⟨fc1, ec1, hF⟩ := gC_s hF
  obtain ⟨r1, u1, e1, hF⟩ := bnd_s hF
  have mm1 : hle u1 out.2 := (show Mo u1 _ from mo_ret hle_rf) _ hF
  obtain ⟨mc1, ms1, hmc1, hms1⟩ := up_of (moJ7_setLength h a0 p1 _ e1)
  replace hc := cst_call hc hmc1 hms1
  refine h_callv (va_runSU (hGr.K.1 12 _ rfl).2 (As := [.int p1]) (rest := []) ⟨hx, hb, hml, hown, hts⟩ (mgJ7_setLength l D A h a0 p1 _ e1 mc1 ms1 hmc1 hms1) (va_cwSU 1 hts (lw_SU q1211 q2493 q292 q1212 q111 q1213) rfl rfl rfl (by decide +kernel) ⟨Nat.le_of_ble_eq_true rfl, Nat.le_of_ble_eq_true rfl⟩) (h_preV hGr hr hS ec1 (by decide) (q := (RJ8, TJ8, 4)) rfl _) rfl rfl hl.1 rfl (lv_room (Nat.le_of_ble_eq_true rfl)) dJ8_setLength_2 ⟨(bud hc mm1 hmc hms).1, (bud hc mm1 hmc hms).2⟩) hS (fun uu H locs hw hr hS => ?_)
  obtain rfl : u1 = uu := (congrArg Prod.snd hw).symm
  have bz := bud_r hc hF hmc hms
  refine W.widen (k := mc) (n := ms) bz.1 bz.2 ?_
  exact W.vret hx hb hret (fun t ht hWm => ⟨⟨u1, rfl, Option.some.inj hF, h_end hGr hr hS ht hWm⟩, hS.F ht⟩) hS.2.2 dJ8_setLength_5

def GJ8_length (h : Hp) (a0 : Nat) : Option (Int32 × Hp) := gC h a0 12 (bnd (GJ7_length h a0) (fun r1 u1 => some (r1, u1)))
theorem moJ8_length (h : Hp) (a0 : Nat) : Mo h (GJ8_length h a0) := by
  unfold GJ8_length
  exact mo_gC (mo_bnd (moJ7_length h a0) hle_rf (fun r1 u1 m1 => mo_ret m1))
set_option maxHeartbeats 4000000 in
set_option maxRecDepth 100000 in
theorem mgJ8_length (l : Launch) (D : HD) (A : Nat → Prop) (h : Hp) (a0 : Nat) (out : Int32 × Hp) (hF : GJ8_length h a0 = some out) (mc ms : Nat) (hmc : hCc out.2 = hCc h + mc) (hms : hSl out.2 = hSl h + ms) : Met l yJ8_length (ws_ yJ8_length cJ8_length 1 (some .int)) ({ frames := 1, cells := mc, slots := ms, locals := 20 }) (va_Pc [.ref a0] (hW D A h)) (va_Qi (fun r u => (r, u) = out) (hW D A) A) mc ms A := by
  refine va_MetF (cc := cJ8_length) (maxL := 1) (ret := (some .int)) (by decide +kernel) rfl ?_
  intro p e s m args below meth c s₁ B hml hv
  obtain ⟨rfl, hr, hGr⟩ := hv
  have hx := B.exec
  have hb := B.bytes
  have hret := B.returns
  have hts := atoms_spec (ws := (ws_ yJ8_length cJ8_length 1 (some .int))) B.pre
  have hts : ∀ w ∈ lw_all, w.before _ s = true := fun w h => hts w (List.mem_cons_of_mem _ h)
  have hown : s.vm.findClass RJ8 = some m.cls := findClass_of_methodNamed B.named
  have hlocks := B.notSynchronized
  have hS : va_S A s.heap s.heap [] := va_S.rf
  have hc : cst h 0 0 h := cst_0
  have hl := lv_entry ([.ref a0]) (n := 1) (Nat.le_of_ble_eq_true rfl)
  rw [lg_entry_eq]
  generalize (lg_sl ([.ref a0]) ++ List.replicate (1 - (lg_sl ([.ref a0])).length) Slot.unset).toArray = ls at hl ⊢
  have hl : lv_has ls 1 [(0, .ref a0)] := hl
  unfold GJ8_length at hF
  refine lv_aload_n hx hb dJ8_length_0 rfl (lv_at hl 0 rfl) ?_
  obtain ⟨fc1, ec1, hF⟩ := gC_s hF
  obtain ⟨r1, u1, e1, hF⟩ := bnd_s hF
  have mm1 : hle u1 out.2 := (show Mo u1 _ from mo_ret hle_rf) _ hF
  obtain ⟨mc1, ms1, hmc1, hms1⟩ := up_of (moJ7_length h a0 _ e1)
  replace hc := cst_call hc hmc1 hms1
  refine h_calli (va_runSU (hGr.K.1 12 _ rfl).2 (As := []) (rest := []) ⟨hx, hb, hml, hown, hts⟩ (mgJ7_length l D A h a0 _ e1 mc1 ms1 hmc1 hms1) (va_cwSU 0 hts (lw_SU q464 q460 q292 q459 q111 q465) rfl rfl rfl (by decide +kernel) ⟨Nat.le_of_ble_eq_true rfl, Nat.le_of_ble_eq_true rfl⟩) (h_preV hGr hr hS ec1 (by decide) (q := (RJ8, TJ8, 4)) rfl _) rfl rfl hl.1 rfl (lv_room (Nat.le_of_ble_eq_true rfl)) dJ8_length_1 ⟨(bud hc mm1 hmc hms).1, (bud hc mm1 hmc hms).2⟩) hS (fun rr uu H locs hw hr hS => ?_)
  obtain rfl : u1 = uu := (congrArg Prod.snd hw).symm
  obtain rfl : r1 = rr := (congrArg Prod.fst hw).symm
  have bz := bud_r hc hF hmc hms
  refine W.widen (k := mc) (n := ms) bz.1 bz.2 ?_
  exact W.iret (v := r1) hx hb hret (fun t ht hWm => ⟨⟨r1, u1, rfl, Option.some.inj hF, h_end hGr hr hS ht hWm⟩, hS.F ht⟩) hS.2.2 dJ8_length_4

def GJ8_charAt (h : Hp) (a0 : Nat) (p1 : Int32) : Option (Int32 × Hp) := gC h a0 12 (bnd (GJ7_charAt h a0 p1) (fun r1 u1 => gd (chB r1) (some (r1, u1))))
theorem moJ8_charAt (h : Hp) (a0 : Nat) (p1 : Int32) : Mo h (GJ8_charAt h a0 p1) := by
  unfold GJ8_charAt
  exact mo_gC (mo_bnd (moJ7_charAt h a0 p1) hle_rf (fun r1 u1 m1 => mo_gd (mo_ret m1)))
set_option maxHeartbeats 4000000 in
set_option maxRecDepth 100000 in
theorem mgJ8_charAt (l : Launch) (D : HD) (A : Nat → Prop) (h : Hp) (a0 : Nat) (p1 : Int32) (out : Int32 × Hp) (hF : GJ8_charAt h a0 p1 = some out) (mc ms : Nat) (hmc : hCc out.2 = hCc h + mc) (hms : hSl out.2 = hSl h + ms) : Met l yJ8_charAt (ws_ yJ8_charAt cJ8_charAt 2 (some .char)) ({ frames := 3, cells := mc, slots := ms, locals := 67 }) (va_Pc [.ref a0, .int p1] (hW D A h)) (va_Qi (fun r u => (r, u) = out) (hW D A) A) mc ms A := by
  refine va_MetF (cc := cJ8_charAt) (maxL := 2) (ret := (some .char)) (by decide +kernel) rfl ?_
  intro p e s m args below meth c s₁ B hml hv
  obtain ⟨rfl, hr, hGr⟩ := hv
  have hx := B.exec
  have hb := B.bytes
  have hret := B.returns
  have hts := atoms_spec (ws := (ws_ yJ8_charAt cJ8_charAt 2 (some .char))) B.pre
  have hts : ∀ w ∈ lw_all, w.before _ s = true := fun w h => hts w (List.mem_cons_of_mem _ h)
  have hown : s.vm.findClass RJ8 = some m.cls := findClass_of_methodNamed B.named
  have hlocks := B.notSynchronized
  have hS : va_S A s.heap s.heap [] := va_S.rf
  have hc : cst h 0 0 h := cst_0
  have hl := lv_entry ([.ref a0, .int p1]) (n := 2) (Nat.le_of_ble_eq_true rfl)
  rw [lg_entry_eq]
  generalize (lg_sl ([.ref a0, .int p1]) ++ List.replicate (2 - (lg_sl ([.ref a0, .int p1])).length) Slot.unset).toArray = ls at hl ⊢
  have hl : lv_has ls 2 [(0, .ref a0), (1, .int p1)] := hl
  unfold GJ8_charAt at hF
  refine lv_aload_n hx hb dJ8_charAt_0 rfl (lv_at hl 0 rfl) ?_
  refine lv_iload_n hx hb dJ8_charAt_1 rfl (lv_at hl 1 rfl) ?_
  obtain ⟨fc1, ec1, hF⟩ := gC_s hF
  obtain ⟨r1, u1, e1, hF⟩ := bnd_s hF
  have mm1 : hle u1 out.2 := (show Mo u1 _ from mo_gd (mo_ret hle_rf)) _ hF
  obtain ⟨mc1, ms1, hmc1, hms1⟩ := up_of (moJ7_charAt h a0 p1 _ e1)
  replace hc := cst_call hc hmc1 hms1
  refine h_calli (va_runSU (hGr.K.1 12 _ rfl).2 (As := [.int p1]) (rest := []) ⟨hx, hb, hml, hown, hts⟩ (mgJ7_charAt l D A h a0 p1 _ e1 mc1 ms1 hmc1 hms1) (va_cwSU 1 hts (lw_SU q1930 q2496 q292 q1931 q111 q1932) rfl rfl rfl (by decide +kernel) ⟨Nat.le_of_ble_eq_true rfl, Nat.le_of_ble_eq_true rfl⟩) (h_preV hGr hr hS ec1 (by decide) (q := (RJ8, TJ8, 4)) rfl _) rfl rfl hl.1 rfl (lv_room (Nat.le_of_ble_eq_true rfl)) dJ8_charAt_2 ⟨(bud hc mm1 hmc hms).1, (bud hc mm1 hmc hms).2⟩) hS (fun rr uu H locs hw hr hS => ?_)
  obtain rfl : u1 = uu := (congrArg Prod.snd hw).symm
  obtain rfl : r1 = rr := (congrArg Prod.fst hw).symm
  obtain ⟨g2, hF⟩ := gd_s hF
  have bz := bud_r hc hF hmc hms
  refine W.widen (k := mc) (n := ms) bz.1 bz.2 ?_
  exact W.zret (v := r1) hx hb hret (ch_of g2) (fun t ht hWm => ⟨⟨r1, u1, rfl, Option.some.inj hF, h_end hGr hr hS ht hWm⟩, hS.F ht⟩) hS.2.2 dJ8_charAt_5

def GX1_init (n : Nat) (h : Hp) (a0 : Nat) : Option (Int32 × Hp) := nW h 2 [.null, .int 0, .null, .null, .int 0, .int 0, .int 0, .null, .null, .int 0, .int 0] 11 (fun a1_ h1 => bnd (GX2_init n h1 a1_) (fun r2 u2 => pV u2 a0 1 0 (.ref a1_) (fun h3 => nW h3 11 [.null, .int 0, .int 0] 3 (fun a4_ h4 => bnd (GJ17_init h4 a4_) (fun r5 u5 => pV u5 a0 1 1 (.ref a4_) (fun h6 => nQ h6 3 (2 : Int32) (fun a7_ h7 => pV h7 a0 1 2 (.ref a7_) (fun h8 => nA h8 1 (800 : Int32) (fun a9_ h9 => pV h9 a0 1 3 (.ref a9_) (fun h10 => pV h10 a0 1 5 (.int (-1)) (fun h11 => nW h11 12 [.null, .int 0, .int 0, .int 0] 4 (fun a12_ h12 => bnd (GJ8_init h12 a12_) (fun r13 u13 => pV u13 a0 1 6 (.ref a12_) (fun h14 => some (0, h14)))))))))))))))
theorem moX1_init (n : Nat) (h : Hp) (a0 : Nat) : Mo h (GX1_init n h a0) := by
  unfold GX1_init
  exact mo_nW hle_rf (fun a1_ h1 m1 => mo_bnd (moX2_init n h1 a1_) m1 (fun r2 u2 m2 => mo_pV m2 (fun h3 m3 => mo_nW m3 (fun a4_ h4 m4 => mo_bnd (moJ17_init h4 a4_) m4 (fun r5 u5 m5 => mo_pV m5 (fun h6 m6 => mo_nQ m6 (fun a7_ h7 m7 => mo_pV m7 (fun h8 m8 => mo_nA m8 (fun a9_ h9 m9 => mo_pV m9 (fun h10 m10 => mo_pV m10 (fun h11 m11 => mo_nW m11 (fun a12_ h12 m12 => mo_bnd (moJ8_init h12 a12_) m12 (fun r13 u13 m13 => mo_pV m13 (fun h14 m14 => mo_ret m14))))))))))))))
set_option maxHeartbeats 4000000 in
set_option maxRecDepth 100000 in
theorem mgX1_init (l : Launch) (D : HD) (A : Nat → Prop) (h : Hp) (n : Nat) (a0 : Nat) (out : Int32 × Hp) (hF : GX1_init n h a0 = some out) (mc ms : Nat) (hmc : hCc out.2 = hCc h + mc) (hms : hSl out.2 = hSl h + ms) : Met l yX1_init (ws_ yX1_init cX1_init 1 none) ({ frames := 7, cells := mc, slots := ms, locals := 145 }) (va_Pc [.ref a0] (hW D A h)) (va_Qv (fun u => (0, u) = out) (hW D A) A) mc ms A := by
  refine Met.ofW (cc := cX1_init) (maxL := 1) (ret := none) (by decide +kernel) rfl ?_
  intro p e s m args below meth c s₁ B hml hv
  obtain ⟨rfl, hr, hGr⟩ := hv
  have hx := B.exec
  have hb := B.bytes
  have hret := B.returns
  have hts := atoms_spec (ws := (ws_ yX1_init cX1_init 1 none)) B.pre
  have hts : ∀ w ∈ lw_all, w.before _ s = true := fun w h => hts w (List.mem_cons_of_mem _ h)
  have hown : s.vm.findClass RX1 = some m.cls := findClass_of_methodNamed B.named
  have hlocks := B.notSynchronized
  have hin : meth.name = "<init>" := (name_of_methodNamed B.named B.method).1
  have hS : va_S A s.heap s.heap [] := va_S.rf
  have hc : cst h 0 0 h := cst_0
  have hl := lv_entry ([.ref a0]) (n := 1) (Nat.le_of_ble_eq_true rfl)
  rw [lg_entry_eq]
  generalize (lg_sl ([.ref a0]) ++ List.replicate (1 - (lg_sl ([.ref a0])).length) Slot.unset).toArray = ls at hl ⊢
  have hl : lv_has ls 1 [(0, .ref a0)] := hl
  unfold GX1_init at hF
  refine lv_aload_n hx hb dX1_init_0 rfl (lv_at hl 0 rfl) ?_
  refine W.objInit hx hb hown (hts _ q148) (hts _ q149) (hts _ q150) rfl (by rw [hml]; exact hl.1) rfl dX1_init_1 (Nat.le_of_ble_eq_true rfl) (Nat.le_of_ble_eq_true rfl) ?_
  refine W.eq (g2 := F0 m 4 ls []) rfl ?_
  refine lv_aload_n hx hb dX1_init_4 rfl (lv_at hl 0 rfl) ?_
  obtain ⟨a1_, h1, ea1, eh1, hF⟩ := nW_s hF
  have mm1 : hle h1 out.2 := (show Mo h1 _ from mo_bnd (moX2_init n h1 a1_) hle_rf (fun r2 u2 m2 => mo_pV m2 (fun h3 m3 => mo_nW m3 (fun a4_ h4 m4 => mo_bnd (moJ17_init h4 a4_) m4 (fun r5 u5 m5 => mo_pV m5 (fun h6 m6 => mo_nQ m6 (fun a7_ h7 m7 => mo_pV m7 (fun h8 m8 => mo_nA m8 (fun a9_ h9 m9 => mo_pV m9 (fun h10 m10 => mo_pV m10 (fun h11 m11 => mo_nW m11 (fun a12_ h12 m12 => mo_bnd (moJ8_init h12 a12_) m12 (fun r13 u13 m13 => mo_pV m13 (fun h14 m14 => mo_ret m14)))))))))))))) _ hF
  replace hc := cst_new hc eh1
  refine h_new (C := RX2) (T := TX2) (N := 11) hx hb hts in_X2 tyX2 tyX2_ok hown (hts _ q151) (hts _ q152) (hts _ q102) hGr hr hS (ci := 2) (by decide) rfl (fs := [.null, .int 0, .null, .null, .int 0, .int 0, .int 0, .null, .null, .int 0, .int 0]) (fun j hj => by match j, hj with | 0, _ => rfl | 1, _ => rfl | 2, _ => rfl | 3, _ => rfl | 4, _ => rfl | 5, _ => rfl | 6, _ => rfl | 7, _ => rfl | 8, _ => rfl | 9, _ => rfl | 10, _ => rfl | j + 11, hj => omega) (bud hc mm1 hmc hms).1 (bud hc mm1 hmc hms).2 dX1_init_5 (fun H hr hS => ?_)
  rw [← eh1] at hr
  rw [← ea1]
  refine lv_dup hx hb dX1_init_8 rfl ?_
  obtain ⟨r2, u2, e2, hF⟩ := bnd_s hF
  have mm2 : hle u2 out.2 := (show Mo u2 _ from mo_pV hle_rf (fun h3 m3 => mo_nW m3 (fun a4_ h4 m4 => mo_bnd (moJ17_init h4 a4_) m4 (fun r5 u5 m5 => mo_pV m5 (fun h6 m6 => mo_nQ m6 (fun a7_ h7 m7 => mo_pV m7 (fun h8 m8 => mo_nA m8 (fun a9_ h9 m9 => mo_pV m9 (fun h10 m10 => mo_pV m10 (fun h11 m11 => mo_nW m11 (fun a12_ h12 m12 => mo_bnd (moJ8_init h12 a12_) m12 (fun r13 u13 m13 => mo_pV m13 (fun h14 m14 => mo_ret m14))))))))))))) _ hF
  obtain ⟨mc2, ms2, hmc2, hms2⟩ := up_of (moX2_init n h1 a1_ _ e2)
  replace hc := cst_call hc hmc2 hms2
  refine h_callv (va_runI (As := []) (rest := [.ref a1_, .ref a0]) ⟨hx, hb, hml, hown, hts⟩ (mgX2_init l D A h1 n a1_ _ e2 mc2 ms2 hmc2 hms2) (cwI 0 hts (lw_meth q155) rfl rfl rfl (hts _ q102) (hts _ q153) (hts _ q154) rfl (by decide +kernel) ⟨Nat.le_of_ble_eq_true rfl, Nat.le_of_ble_eq_true rfl⟩) (h_preS hGr hr hS _) rfl rfl hl.1 rfl (lv_room (Nat.le_of_ble_eq_true rfl)) dX1_init_9 ⟨(bud hc mm2 hmc hms).1, (bud hc mm2 hmc hms).2⟩) hS (fun uu H locs hw hr hS => ?_)
  obtain rfl : u2 = uu := (congrArg Prod.snd hw).symm
  obtain ⟨fs3, e3, k3, lo3, hF⟩ := pV_s hF
  obtain ⟨h3, eh3⟩ : ∃ z, z = hPut u2 a0 (.inr (1, fs3.set 0 (.ref a1_))) := ⟨_, rfl⟩
  rw [← eh3] at hF
  refine h_put (C := RX1) (T := TX1) (N := 7) hx hb hts in_X1 tyX1 tyX1_ok nmX1 hown hGr hr hS e3 (by decide) rfl 0 (by decide) (hts _ q633) (fun _ h9 => h9) rfl (tyX1_ok 0 (by decide)) rfl rfl k3 lo3 dX1_init_12 (fun H locs hr hS => ?_)
  rw [← eh3] at hr
  replace hc := cst_put hc eh3
  refine lv_aload_n hx hb dX1_init_15 rfl (lv_at hl 0 rfl) ?_
  obtain ⟨a4_, h4, ea4, eh4, hF⟩ := nW_s hF
  have mm4 : hle h4 out.2 := (show Mo h4 _ from mo_bnd (moJ17_init h4 a4_) hle_rf (fun r5 u5 m5 => mo_pV m5 (fun h6 m6 => mo_nQ m6 (fun a7_ h7 m7 => mo_pV m7 (fun h8 m8 => mo_nA m8 (fun a9_ h9 m9 => mo_pV m9 (fun h10 m10 => mo_pV m10 (fun h11 m11 => mo_nW m11 (fun a12_ h12 m12 => mo_bnd (moJ8_init h12 a12_) m12 (fun r13 u13 m13 => mo_pV m13 (fun h14 m14 => mo_ret m14))))))))))) _ hF
  replace hc := cst_new hc eh4
  refine h_new (C := RJ17) (T := TJ17) (N := 3) hx hb hts in_J17 tyJ17 tyJ17_ok hown (hts _ q613) (hts _ q614) (hts _ q124) hGr hr hS (ci := 11) (by decide) rfl (fs := [.null, .int 0, .int 0]) (fun j hj => by match j, hj with | 0, _ => rfl | 1, _ => rfl | 2, _ => rfl | j + 3, hj => omega) (bud hc mm4 hmc hms).1 (bud hc mm4 hmc hms).2 dX1_init_16 (fun H hr hS => ?_)
  rw [← eh4] at hr
  rw [← ea4]
  refine lv_dup hx hb dX1_init_19 rfl ?_
  obtain ⟨r5, u5, e5, hF⟩ := bnd_s hF
  have mm5 : hle u5 out.2 := (show Mo u5 _ from mo_pV hle_rf (fun h6 m6 => mo_nQ m6 (fun a7_ h7 m7 => mo_pV m7 (fun h8 m8 => mo_nA m8 (fun a9_ h9 m9 => mo_pV m9 (fun h10 m10 => mo_pV m10 (fun h11 m11 => mo_nW m11 (fun a12_ h12 m12 => mo_bnd (moJ8_init h12 a12_) m12 (fun r13 u13 m13 => mo_pV m13 (fun h14 m14 => mo_ret m14)))))))))) _ hF
  obtain ⟨mc5, ms5, hmc5, hms5⟩ := up_of (moJ17_init h4 a4_ _ e5)
  replace hc := cst_call hc hmc5 hms5
  refine h_callv (va_runI (As := []) (rest := [.ref a4_, .ref a0]) ⟨hx, hb, hml, hown, hts⟩ (mgJ17_init l D A h4 a4_ _ e5 mc5 ms5 hmc5 hms5) (cwI 0 hts (lw_meth q617) rfl rfl rfl (hts _ q124) (hts _ q615) (hts _ q616) rfl (by decide +kernel) ⟨Nat.le_of_ble_eq_true rfl, Nat.le_of_ble_eq_true rfl⟩) (h_preS hGr hr hS _) rfl rfl hl.1 rfl (lv_room (Nat.le_of_ble_eq_true rfl)) dX1_init_20 ⟨(bud hc mm5 hmc hms).1, (bud hc mm5 hmc hms).2⟩) hS (fun uu H locs hw hr hS => ?_)
  obtain rfl : u5 = uu := (congrArg Prod.snd hw).symm
  obtain ⟨fs6, e6, k6, lo6, hF⟩ := pV_s hF
  obtain ⟨h6, eh6⟩ : ∃ z, z = hPut u5 a0 (.inr (1, fs6.set 1 (.ref a4_))) := ⟨_, rfl⟩
  rw [← eh6] at hF
  refine h_putF (C := RX1) (T := TX1) (N := 7) hx hb hts in_X1 tyX1 tyX1_ok nmX1 hown hGr hr hS e6 (by decide) rfl 1 (by decide) (hts _ q634) (fun _ h9 => h9) rfl hin rfl (tyX1_ok 1 (by decide)) rfl rfl k6 lo6 dX1_init_23 (fun H locs hr hS => ?_)
  rw [← eh6] at hr
  replace hc := cst_put hc eh6
  refine lv_aload_n hx hb dX1_init_26 rfl (lv_at hl 0 rfl) ?_
  refine lv_iconst (v := 2) hx hb dX1_init_27 (by decide) ?_
  obtain ⟨a7_, h7, ea7, eh7, g7, hF⟩ := nQ_s hF
  have mm7 : hle h7 out.2 := (show Mo h7 _ from mo_pV hle_rf (fun h8 m8 => mo_nA m8 (fun a9_ h9 m9 => mo_pV m9 (fun h10 m10 => mo_pV m10 (fun h11 m11 => mo_nW m11 (fun a12_ h12 m12 => mo_bnd (moJ8_init h12 a12_) m12 (fun r13 u13 m13 => mo_pV m13 (fun h14 m14 => mo_ret m14)))))))) _ hF
  replace hc := cst_new hc eh7
  refine h_newP hx hb hown (hts _ q151) hGr hr hS g7 (bud hc mm7 hmc hms).1 (bud hc mm7 hmc hms).2 dX1_init_28 (fun H hr hS => ?_)
  rw [← eh7] at hr
  rw [← ea7]
  obtain ⟨fs8, e8, k8, lo8, hF⟩ := pV_s hF
  obtain ⟨h8, eh8⟩ : ∃ z, z = hPut h7 a0 (.inr (1, fs8.set 2 (.ref a7_))) := ⟨_, rfl⟩
  rw [← eh8] at hF
  refine h_putF (C := RX1) (T := TX1) (N := 7) hx hb hts in_X1 tyX1 tyX1_ok nmX1 hown hGr hr hS e8 (by decide) rfl 2 (by decide) (hts _ q635) (fun _ h9 => h9) rfl hin rfl (tyX1_ok 2 (by decide)) rfl rfl k8 lo8 dX1_init_31 (fun H locs hr hS => ?_)
  rw [← eh8] at hr
  replace hc := cst_put hc eh8
  refine lv_aload_n hx hb dX1_init_34 rfl (lv_at hl 0 rfl) ?_
  refine lv_sipush (v := 800) hx hb dX1_init_35 (by decide) ?_
  obtain ⟨a9_, h9, ea9, eh9, g9, hF⟩ := nA_s hF
  have mm9 : hle h9 out.2 := (show Mo h9 _ from mo_pV hle_rf (fun h10 m10 => mo_pV m10 (fun h11 m11 => mo_nW m11 (fun a12_ h12 m12 => mo_bnd (moJ8_init h12 a12_) m12 (fun r13 u13 m13 => mo_pV m13 (fun h14 m14 => mo_ret m14)))))) _ hF
  replace hc := cst_new hc eh9
  refine h_newB hx hb (hts _ q293) hGr hr hS g9 (bud hc mm9 hmc hms).1 (bud hc mm9 hmc hms).2 dX1_init_38 (fun H hr hS => ?_)
  rw [← eh9] at hr
  rw [← ea9]
  obtain ⟨fs10, e10, k10, lo10, hF⟩ := pV_s hF
  obtain ⟨h10, eh10⟩ : ∃ z, z = hPut h9 a0 (.inr (1, fs10.set 3 (.ref a9_))) := ⟨_, rfl⟩
  rw [← eh10] at hF
  refine h_putF (C := RX1) (T := TX1) (N := 7) hx hb hts in_X1 tyX1 tyX1_ok nmX1 hown hGr hr hS e10 (by decide) rfl 3 (by decide) (hts _ q637) (fun _ h9 => h9) rfl hin rfl (tyX1_ok 3 (by decide)) rfl rfl k10 lo10 dX1_init_40 (fun H locs hr hS => ?_)
  rw [← eh10] at hr
  replace hc := cst_put hc eh10
  refine lv_aload_n hx hb dX1_init_43 rfl (lv_at hl 0 rfl) ?_
  refine lv_iconst (v := (-1)) hx hb dX1_init_44 (by decide) ?_
  obtain ⟨fs11, e11, k11, lo11, hF⟩ := pV_s hF
  obtain ⟨h11, eh11⟩ : ∃ z, z = hPut h10 a0 (.inr (1, fs11.set 5 (.int (-1)))) := ⟨_, rfl⟩
  rw [← eh11] at hF
  refine h_put (C := RX1) (T := TX1) (N := 7) hx hb hts in_X1 tyX1 tyX1_ok nmX1 hown hGr hr hS e11 (by decide) rfl 5 (by decide) (hts _ q641) (fun _ h9 => h9) rfl (tyX1_ok 5 (by decide)) rfl rfl k11 lo11 dX1_init_45 (fun H locs hr hS => ?_)
  rw [← eh11] at hr
  replace hc := cst_put hc eh11
  refine lv_aload_n hx hb dX1_init_48 rfl (lv_at hl 0 rfl) ?_
  obtain ⟨a12_, h12, ea12, eh12, hF⟩ := nW_s hF
  have mm12 : hle h12 out.2 := (show Mo h12 _ from mo_bnd (moJ8_init h12 a12_) hle_rf (fun r13 u13 m13 => mo_pV m13 (fun h14 m14 => mo_ret m14))) _ hF
  replace hc := cst_new hc eh12
  refine h_new (C := RJ8) (T := TJ8) (N := 4) hx hb hts in_J8 tyJ8 tyJ8_ok hown (hts _ q631) (hts _ q262) (hts _ q112) hGr hr hS (ci := 12) (by decide) rfl (fs := [.null, .int 0, .int 0, .int 0]) (fun j hj => by match j, hj with | 0, _ => rfl | 1, _ => rfl | 2, _ => rfl | 3, _ => rfl | j + 4, hj => omega) (bud hc mm12 hmc hms).1 (bud hc mm12 hmc hms).2 dX1_init_49 (fun H hr hS => ?_)
  rw [← eh12] at hr
  rw [← ea12]
  refine lv_dup hx hb dX1_init_52 rfl ?_
  obtain ⟨r13, u13, e13, hF⟩ := bnd_s hF
  have mm13 : hle u13 out.2 := (show Mo u13 _ from mo_pV hle_rf (fun h14 m14 => mo_ret m14)) _ hF
  obtain ⟨mc13, ms13, hmc13, hms13⟩ := up_of (moJ8_init h12 a12_ _ e13)
  replace hc := cst_call hc hmc13 hms13
  refine h_callv (va_runI (As := []) (rest := [.ref a12_, .ref a0]) ⟨hx, hb, hml, hown, hts⟩ (mgJ8_init l D A h12 a12_ _ e13 mc13 ms13 hmc13 hms13) (cwI 0 hts (lw_meth q265) rfl rfl rfl (hts _ q112) (hts _ q632) (hts _ q264) rfl (by decide +kernel) ⟨Nat.le_of_ble_eq_true rfl, Nat.le_of_ble_eq_true rfl⟩) (h_preS hGr hr hS _) rfl rfl hl.1 rfl (lv_room (Nat.le_of_ble_eq_true rfl)) dX1_init_53 ⟨(bud hc mm13 hmc hms).1, (bud hc mm13 hmc hms).2⟩) hS (fun uu H locs hw hr hS => ?_)
  obtain rfl : u13 = uu := (congrArg Prod.snd hw).symm
  obtain ⟨fs14, e14, k14, lo14, hF⟩ := pV_s hF
  obtain ⟨h14, eh14⟩ : ∃ z, z = hPut u13 a0 (.inr (1, fs14.set 6 (.ref a12_))) := ⟨_, rfl⟩
  rw [← eh14] at hF
  refine h_putF (C := RX1) (T := TX1) (N := 7) hx hb hts in_X1 tyX1 tyX1_ok nmX1 hown hGr hr hS e14 (by decide) rfl 6 (by decide) (hts _ q642) (fun _ h9 => h9) rfl hin rfl (tyX1_ok 6 (by decide)) rfl rfl k14 lo14 dX1_init_56 (fun H locs hr hS => ?_)
  rw [← eh14] at hr
  replace hc := cst_put hc eh14
  have bz := bud_r hc hF hmc hms
  refine W.widen (k := mc) (n := ms) bz.1 bz.2 ?_
  exact W.vret hx hb hret (fun t ht hWm => ⟨⟨h14, rfl, Option.some.inj hF, h_end hGr hr hS ht hWm⟩, hS.F ht⟩) hS.2.2 dX1_init_59

def GX1_writeChains_1 (kz : Nat → Nat) (R : Nat → Hp → Nat → Int32 → Option (Int32 × Hp)) (n : Nat) (h : Hp) (b0 : Nat) (x1 : Int32) : Option (Int32 × Hp) := gQ h b0 1 0 (fun x3_ => gQ h x3_ 2 8 (fun x4_ => gC h x4_ 10 (bnd (GJ2_size h x4_) (fun r5 u5 => if r5 ≤ x1 then gQ u5 b0 1 0 (fun x7_ => gI u5 x7_ 2 9 (fun x8_ => if x8_ ≤ 0 then gQ u5 b0 1 6 (fun x10_ => gC u5 x10_ 12 (bnd (GJ8_length u5 x10_) (fun r11 u11 => some (r11, u11)))) else gQ u5 b0 1 6 (fun x12_ => gC u5 x12_ 12 (bnd (GJ8_append_3 u5 x12_ (33 : Int32)) (fun r13 u13 => gQ u13 b0 1 6 (fun x14_ => gC u13 x14_ 12 (bnd (GJ8_length u13 x14_) (fun r15 u15 => some (r15, u15))))))))) else gQ u5 b0 1 0 (fun x16_ => gQ u5 x16_ 2 8 (fun x17_ => gC u5 x17_ 10 (bnd (GJ2_get u5 x17_ x1) (fun r18 u18 => gC u18 r18 7 (if x1 ≤ 0 then gQ u18 b0 1 6 (fun x21_ => gC u18 r18 7 (bnd (GX8_many u18 r18) (fun r22 u22 => gC u22 x21_ 12 (bnd (GJ8_append_2 kz n u22 x21_ r22) (fun r23 u23 => gC u23 r18 7 (bnd (GX8_cause u23 r18) (fun r24 u24 => gC u24 (kz 310) 13 (bnd (GJ9_charAt u24 (kz 310) r24) (fun r25 u25 => gC u25 r23 12 (bnd (GJ8_append_3 u25 r23 r25) (fun r26 u26 => R 1 u26 b0 (x1 + 1)))))))))))) else gQ u18 b0 1 6 (fun x27_ => gC u18 x27_ 12 (bnd (GJ8_append_3 u18 x27_ (32 : Int32)) (fun r28 u28 => gQ u28 b0 1 6 (fun x29_ => gC u28 r18 7 (bnd (GX8_many u28 r18) (fun r30 u30 => gC u30 x29_ 12 (bnd (GJ8_append_2 kz n u30 x29_ r30) (fun r31 u31 => gC u31 r18 7 (bnd (GX8_cause u31 r18) (fun r32 u32 => gC u32 (kz 310) 13 (bnd (GJ9_charAt u32 (kz 310) r32) (fun r33 u33 => gC u33 r31 12 (bnd (GJ8_append_3 u33 r31 r33) (fun r34 u34 => R 1 u34 b0 (x1 + 1))))))))))))))))))))))))
def GX1_writeChains_r (kz : Nat → Nat) : Nat → Nat → Hp → Nat → Int32 → Option (Int32 × Hp)
  | 0 => fun _ _ _ _ => none
  | n + 1 => fun k => match k with  | _ => GX1_writeChains_1 kz (GX1_writeChains_r kz n) n
def GX1_writeChains_0 (kz : Nat → Nat) (R : Nat → Hp → Nat → Int32 → Option (Int32 × Hp)) (n : Nat) (h : Hp) (a0 : Nat) : Option (Int32 × Hp) := gQ h a0 1 6 (fun x1_ => gC h x1_ 12 (bnd (GJ8_setLength h x1_ (0 : Int32)) (fun r2 u2 => R 1 u2 a0 (0 : Int32))))
def GX1_writeChains (kz : Nat → Nat) (n : Nat) (h : Hp) (a0 : Nat) : Option (Int32 × Hp) := GX1_writeChains_0 kz (GX1_writeChains_r kz n) n h a0
theorem moX1_writeChains_r (kz : Nat → Nat) (n : Nat) : (∀ (h : Hp) (b0 : Nat) (x1 : Int32), Mo h (GX1_writeChains_r kz n 1 h b0 x1)) := by
  induction n with
  | zero => exact (fun _ _ _ => mo_no)
  | succ n ih =>
    have ml1 := ih
    exact (fun h b0 x1 => show Mo h (GX1_writeChains_1 kz (GX1_writeChains_r kz n) n h b0 x1) from by unfold GX1_writeChains_1; exact mo_gQ (fun x3_ => mo_gQ (fun x4_ => mo_gC (mo_bnd (moJ2_size h x4_) hle_rf (fun r5 u5 m5 => mo_ite (mo_gQ (fun x7_ => mo_gI (fun x8_ => mo_ite (mo_gQ (fun x10_ => mo_gC (mo_bnd (moJ8_length u5 x10_) m5 (fun r11 u11 m11 => mo_ret m11)))) (mo_gQ (fun x12_ => mo_gC (mo_bnd (moJ8_append_3 u5 x12_ (33 : Int32)) m5 (fun r13 u13 m13 => mo_gQ (fun x14_ => mo_gC (mo_bnd (moJ8_length u13 x14_) m13 (fun r15 u15 m15 => mo_ret m15)))))))))) (mo_gQ (fun x16_ => mo_gQ (fun x17_ => mo_gC (mo_bnd (moJ2_get u5 x17_ x1) m5 (fun r18 u18 m18 => mo_gC (mo_ite (mo_gQ (fun x21_ => mo_gC (mo_bnd (moX8_many u18 r18) m18 (fun r22 u22 m22 => mo_gC (mo_bnd (moJ8_append_2 kz n u22 x21_ r22) m22 (fun r23 u23 m23 => mo_gC (mo_bnd (moX8_cause u23 r18) m23 (fun r24 u24 m24 => mo_gC (mo_bnd (moJ9_charAt u24 (kz 310) r24) m24 (fun r25 u25 m25 => mo_gC (mo_bnd (moJ8_append_3 u25 r23 r25) m25 (fun r26 u26 m26 => mo_tr m26 (ml1 u26 b0 (x1 + 1)))))))))))))) (mo_gQ (fun x27_ => mo_gC (mo_bnd (moJ8_append_3 u18 x27_ (32 : Int32)) m18 (fun r28 u28 m28 => mo_gQ (fun x29_ => mo_gC (mo_bnd (moX8_many u28 r18) m28 (fun r30 u30 m30 => mo_gC (mo_bnd (moJ8_append_2 kz n u30 x29_ r30) m30 (fun r31 u31 m31 => mo_gC (mo_bnd (moX8_cause u31 r18) m31 (fun r32 u32 m32 => mo_gC (mo_bnd (moJ9_charAt u32 (kz 310) r32) m32 (fun r33 u33 m33 => mo_gC (mo_bnd (moJ8_append_3 u33 r31 r33) m33 (fun r34 u34 m34 => mo_tr m34 (ml1 u34 b0 (x1 + 1))))))))))))))))))))))))))))
theorem moX1_writeChains (kz : Nat → Nat) (n : Nat) (h : Hp) (a0 : Nat) : Mo h (GX1_writeChains kz n h a0) := by
  have ml1 := moX1_writeChains_r kz n
  unfold GX1_writeChains GX1_writeChains_0
  exact mo_gQ (fun x1_ => mo_gC (mo_bnd (moJ8_setLength h x1_ (0 : Int32)) hle_rf (fun r2 u2 m2 => mo_tr m2 (ml1 u2 a0 (0 : Int32)))))
set_option maxHeartbeats 4000000 in
set_option maxRecDepth 100000 in
theorem mgX1_writeChains (l : Launch) (D : HD) (A : Nat → Prop) (h : Hp) (n : Nat) (a0 : Nat) (out : Int32 × Hp) (hF : GX1_writeChains D.2 n h a0 = some out) (mc ms : Nat) (hmc : hCc out.2 = hCc h + mc) (hms : hSl out.2 = hSl h + ms) : Met l yX1_writeChains (ws_ yX1_writeChains cX1_writeChains 3 (some .int)) ({ frames := 6, cells := mc, slots := ms, locals := 168 }) (va_Pc [.ref a0] (hW D A h)) (va_Qi (fun r u => (r, u) = out) (hW D A) A) mc ms A := by
  refine Met.ofW (cc := cX1_writeChains) (maxL := 3) (ret := (some .int)) (by decide +kernel) rfl ?_
  intro p e s m args below meth c s₁ B hml hv
  obtain ⟨rfl, hr, hGr⟩ := hv
  have hx := B.exec
  have hb := B.bytes
  have hret := B.returns
  have hts := atoms_spec (ws := (ws_ yX1_writeChains cX1_writeChains 3 (some .int))) B.pre
  have hts : ∀ w ∈ lw_all, w.before _ s = true := fun w h => hts w (List.mem_cons_of_mem _ h)
  have hown : s.vm.findClass RX1 = some m.cls := findClass_of_methodNamed B.named
  have hlocks := B.notSynchronized
  have hS : va_S A s.heap s.heap [] := va_S.rf
  have hc : cst h 0 0 h := cst_0
  have hl := lv_entry ([.ref a0]) (n := 3) (Nat.le_of_ble_eq_true rfl)
  rw [lg_entry_eq]
  generalize (lg_sl ([.ref a0]) ++ List.replicate (3 - (lg_sl ([.ref a0])).length) Slot.unset).toArray = ls at hl ⊢
  have hl : lv_has ls 3 [(0, .ref a0)] := hl
  obtain ⟨h0, eh0⟩ : ∃ z, z = h := ⟨_, rfl⟩
  rw [← eh0] at hmc hms
  have loop : ∀ n : Nat, (∀ (h : Hp) (b0 : Nat) (x1 : Int32), GX1_writeChains_r D.2 n 1 h b0 x1 = some out → ∀ (H : Heap) (locs : List Loc) (cells slots : Nat), cst h0 cells slots h → hR D A h H → va_S A s.heap H locs → ∀ ls : Array Slot, lv_has ls 3 [(0, .ref b0), (1, .int x1)] → W p l e (headSpec (ws_ yX1_writeChains cX1_writeChains 3 (some .int)) ({ frames := 6, cells := mc, slots := ms, locals := 168 })).room s m ([.ref a0] : List Value).toArray below meth c H locs cells slots (MQ below (va_Qi (fun r u => (r, u) = out) (hW D A) A) ([.ref a0] : List Value).toArray s mc ms A) (F0 m 10 ls [])) := by
    intro n
    induction n with
    | zero => exact (fun _ _ _ h => nomatch h)
    | succ n ih =>
      have lp1 := ih
      have ml1 := moX1_writeChains_r D.2 n
      intro h b0 x1 hF H locs cells slots hc hr hS ls hl
      replace hF : GX1_writeChains_1 D.2 (GX1_writeChains_r D.2 n) n h b0 x1 = some out := hF
      unfold GX1_writeChains_1 at hF
      refine lv_iload_n hx hb dX1_writeChains_10 rfl (lv_at hl 1 rfl) ?_
      refine lv_aload_n hx hb dX1_writeChains_11 rfl (lv_at hl 0 rfl) ?_
      obtain ⟨fs3, x3_, e3, f3, hF⟩ := gQ_s hF
      refine h_get (C := RX1) (T := TX1) (N := 7) hx hb hts in_X1 hown hGr hr e3 (by decide) rfl 0 (by decide) (hts _ q633) (fun _ h9 => h9) f3 dX1_writeChains_12 ?_
      obtain ⟨fs4, x4_, e4, f4, hF⟩ := gQ_s hF
      refine h_getN (C := RX2) (T := TX2) (N := 11) hx hb hts in_X2 hown hGr hr e4 (by decide) rfl 8 (by decide) (va_Nw.use rfl (hGr.nw q585 rfl)) (fun _ h9 => h9) f4 dX1_writeChains_15 ?_
      obtain ⟨fc5, ec5, hF⟩ := gC_s hF
      obtain ⟨r5, u5, e5, hF⟩ := bnd_s hF
      have mm5 : hle u5 out.2 := (show Mo u5 _ from mo_ite (mo_gQ (fun x7_ => mo_gI (fun x8_ => mo_ite (mo_gQ (fun x10_ => mo_gC (mo_bnd (moJ8_length u5 x10_) hle_rf (fun r11 u11 m11 => mo_ret m11)))) (mo_gQ (fun x12_ => mo_gC (mo_bnd (moJ8_append_3 u5 x12_ (33 : Int32)) hle_rf (fun r13 u13 m13 => mo_gQ (fun x14_ => mo_gC (mo_bnd (moJ8_length u13 x14_) m13 (fun r15 u15 m15 => mo_ret m15)))))))))) (mo_gQ (fun x16_ => mo_gQ (fun x17_ => mo_gC (mo_bnd (moJ2_get u5 x17_ x1) hle_rf (fun r18 u18 m18 => mo_gC (mo_ite (mo_gQ (fun x21_ => mo_gC (mo_bnd (moX8_many u18 r18) m18 (fun r22 u22 m22 => mo_gC (mo_bnd (moJ8_append_2 D.2 n u22 x21_ r22) m22 (fun r23 u23 m23 => mo_gC (mo_bnd (moX8_cause u23 r18) m23 (fun r24 u24 m24 => mo_gC (mo_bnd (moJ9_charAt u24 (D.2 310) r24) m24 (fun r25 u25 m25 => mo_gC (mo_bnd (moJ8_append_3 u25 r23 r25) m25 (fun r26 u26 m26 => mo_tr m26 (ml1 u26 b0 (x1 + 1)))))))))))))) (mo_gQ (fun x27_ => mo_gC (mo_bnd (moJ8_append_3 u18 x27_ (32 : Int32)) m18 (fun r28 u28 m28 => mo_gQ (fun x29_ => mo_gC (mo_bnd (moX8_many u28 r18) m28 (fun r30 u30 m30 => mo_gC (mo_bnd (moJ8_append_2 D.2 n u30 x29_ r30) m30 (fun r31 u31 m31 => mo_gC (mo_bnd (moX8_cause u31 r18) m31 (fun r32 u32 m32 => mo_gC (mo_bnd (moJ9_charAt u32 (D.2 310) r32) m32 (fun r33 u33 m33 => mo_gC (mo_bnd (moJ8_append_3 u33 r31 r33) m33 (fun r34 u34 m34 => mo_tr m34 (ml1 u34 b0 (x1 + 1)))))))))))))))))))))))) _ hF
      obtain ⟨mc5, ms5, hmc5, hms5⟩ := up_of (moJ2_size h x4_ _ e5)
      replace hc := cst_call hc hmc5 hms5
      refine h_callFi (va_runF (hGr.K.1 10 _ rfl).2 (As := []) (rest := [.int x1]) ⟨hx, hb, hml, hown, hts⟩ (mgJ2_size l D A h x4_ _ e5 mc5 ms5 hmc5 hms5) (va_cwF 0 hts (lw_app (lw_fi q1068 q875 q877 q106) (lw_meth q879)) rfl rfl rfl (fw_5 hGr) (by decide +kernel) ⟨Nat.le_of_ble_eq_true rfl, Nat.le_of_ble_eq_true rfl⟩) (h_preV hGr hr hS ec5 (by decide) (q := (RJ2, TJ2, 3)) rfl _) rfl rfl hl.1 rfl (lv_room (Nat.le_of_ble_eq_true rfl)) dX1_writeChains_18 ⟨(bud hc mm5 hmc hms).1, (bud hc mm5 hmc hms).2⟩) hS (fun rr uu H locs hw hr hS => ?_)
      obtain rfl : u5 = uu := (congrArg Prod.snd hw).symm
      obtain rfl : r5 = rr := (congrArg Prod.fst hw).symm
      refine lv_icmp_ge (tgt := 88) hx hb dX1_writeChains_23 (by decide) (fun c6 => ?_) (fun c6 => ?_)
      · replace hF := it_t c6 hF
        refine lv_aload_n hx hb dX1_writeChains_88 rfl (lv_at hl 0 rfl) ?_
        obtain ⟨fs7, x7_, e7, f7, hF⟩ := gQ_s hF
        refine h_get (C := RX1) (T := TX1) (N := 7) hx hb hts in_X1 hown hGr hr e7 (by decide) rfl 0 (by decide) (hts _ q633) (fun _ h9 => h9) f7 dX1_writeChains_89 ?_
        obtain ⟨fs8, x8_, e8, f8, hF⟩ := gI_s hF
        refine h_getN (C := RX2) (T := TX2) (N := 11) hx hb hts in_X2 hown hGr hr e8 (by decide) rfl 9 (by decide) (va_Nw.use rfl (hGr.nw q587 rfl)) (fun _ h9 => h9) f8 dX1_writeChains_92 ?_
        refine lv_if_le (tgt := 108) hx hb dX1_writeChains_95 (by decide) (fun c9 => ?_) (fun c9 => ?_)
        · replace hF := it_t c9 hF
          refine lv_aload_n hx hb dX1_writeChains_108 rfl (lv_at hl 0 rfl) ?_
          obtain ⟨fs10, x10_, e10, f10, hF⟩ := gQ_s hF
          refine h_get (C := RX1) (T := TX1) (N := 7) hx hb hts in_X1 hown hGr hr e10 (by decide) rfl 6 (by decide) (hts _ q642) (fun _ h9 => h9) f10 dX1_writeChains_109 ?_
          obtain ⟨fc11, ec11, hF⟩ := gC_s hF
          obtain ⟨r11, u11, e11, hF⟩ := bnd_s hF
          have mm11 : hle u11 out.2 := (show Mo u11 _ from mo_ret hle_rf) _ hF
          obtain ⟨mc11, ms11, hmc11, hms11⟩ := up_of (moJ8_length u5 x10_ _ e11)
          replace hc := cst_call hc hmc11 hms11
          refine h_calli (va_runV (As := []) (rest := []) ⟨hx, hb, hml, hown, hts⟩ (mgJ8_length l D A u5 x10_ _ e11 mc11 ms11 hmc11 hms11) (cwV 0 hts (lw_V q1317 q462 q2495 q112 q463) rfl rfl rfl (by decide +kernel) ⟨Nat.le_of_ble_eq_true rfl, Nat.le_of_ble_eq_true rfl⟩) (h_preV hGr hr hS ec11 (by decide) (q := (RJ8, TJ8, 4)) rfl _) rfl rfl hl.1 rfl (lv_room (Nat.le_of_ble_eq_true rfl)) dX1_writeChains_112 ⟨(bud hc mm11 hmc hms).1, (bud hc mm11 hmc hms).2⟩) hS (fun rr uu H locs hw hr hS => ?_)
          obtain rfl : u11 = uu := (congrArg Prod.snd hw).symm
          obtain rfl : r11 = rr := (congrArg Prod.fst hw).symm
          have bz := bud_r hc hF hmc hms
          refine W.widen (k := mc) (n := ms) bz.1 bz.2 ?_
          exact W.iret (v := r11) hx hb hret (fun t ht hWm => ⟨⟨r11, u11, rfl, Option.some.inj hF, h_end hGr hr hS ht hWm⟩, hS.F ht⟩) hS.2.2 dX1_writeChains_115
        · replace hF := it_f c9 hF
          refine lv_aload_n hx hb dX1_writeChains_98 rfl (lv_at hl 0 rfl) ?_
          obtain ⟨fs12, x12_, e12, f12, hF⟩ := gQ_s hF
          refine h_get (C := RX1) (T := TX1) (N := 7) hx hb hts in_X1 hown hGr hr e12 (by decide) rfl 6 (by decide) (hts _ q642) (fun _ h9 => h9) f12 dX1_writeChains_99 ?_
          refine lv_bipush (v := 33) hx hb dX1_writeChains_102 (by decide) ?_
          obtain ⟨fc13, ec13, hF⟩ := gC_s hF
          obtain ⟨r13, u13, e13, hF⟩ := bnd_s hF
          have mm13 : hle u13 out.2 := (show Mo u13 _ from mo_gQ (fun x14_ => mo_gC (mo_bnd (moJ8_length u13 x14_) hle_rf (fun r15 u15 m15 => mo_ret m15)))) _ hF
          obtain ⟨mc13, ms13, hmc13, hms13⟩ := up_of (moJ8_append_3 u5 x12_ (33 : Int32) _ e13)
          replace hc := cst_call hc hmc13 hms13
          refine h_callr (va_runV (As := [.int 33]) (rest := []) ⟨hx, hb, hml, hown, hts⟩ (mgJ8_append_3 l D A u5 x12_ (33 : Int32) _ e13 mc13 ms13 hmc13 hms13) (cwV 1 hts (lw_V q1278 q1279 q1280 q112 q1281) rfl rfl rfl (by decide +kernel) ⟨Nat.le_of_ble_eq_true rfl, Nat.le_of_ble_eq_true rfl⟩) (h_preV hGr hr hS ec13 (by decide) (q := (RJ8, TJ8, 4)) rfl _) rfl rfl hl.1 rfl (lv_room (Nat.le_of_ble_eq_true rfl)) dX1_writeChains_104 ⟨(bud hc mm13 hmc hms).1, (bud hc mm13 hmc hms).2⟩) hS (fun rr uu H locs hw hr hS => ?_)
          obtain rfl : u13 = uu := (congrArg Prod.snd hw).symm
          obtain rfl : r13 = rr := (congrArg Prod.fst hw).symm
          refine lv_pop hx hb dX1_writeChains_107 rfl ?_
          refine lv_aload_n hx hb dX1_writeChains_108 rfl (lv_at hl 0 rfl) ?_
          obtain ⟨fs14, x14_, e14, f14, hF⟩ := gQ_s hF
          refine h_get (C := RX1) (T := TX1) (N := 7) hx hb hts in_X1 hown hGr hr e14 (by decide) rfl 6 (by decide) (hts _ q642) (fun _ h9 => h9) f14 dX1_writeChains_109 ?_
          obtain ⟨fc15, ec15, hF⟩ := gC_s hF
          obtain ⟨r15, u15, e15, hF⟩ := bnd_s hF
          have mm15 : hle u15 out.2 := (show Mo u15 _ from mo_ret hle_rf) _ hF
          obtain ⟨mc15, ms15, hmc15, hms15⟩ := up_of (moJ8_length u13 x14_ _ e15)
          replace hc := cst_call hc hmc15 hms15
          refine h_calli (va_runV (As := []) (rest := []) ⟨hx, hb, hml, hown, hts⟩ (mgJ8_length l D A u13 x14_ _ e15 mc15 ms15 hmc15 hms15) (cwV 0 hts (lw_V q1317 q462 q2495 q112 q463) rfl rfl rfl (by decide +kernel) ⟨Nat.le_of_ble_eq_true rfl, Nat.le_of_ble_eq_true rfl⟩) (h_preV hGr hr hS ec15 (by decide) (q := (RJ8, TJ8, 4)) rfl _) rfl rfl hl.1 rfl (lv_room (Nat.le_of_ble_eq_true rfl)) dX1_writeChains_112 ⟨(bud hc mm15 hmc hms).1, (bud hc mm15 hmc hms).2⟩) hS (fun rr uu H locs hw hr hS => ?_)
          obtain rfl : u15 = uu := (congrArg Prod.snd hw).symm
          obtain rfl : r15 = rr := (congrArg Prod.fst hw).symm
          have bz := bud_r hc hF hmc hms
          refine W.widen (k := mc) (n := ms) bz.1 bz.2 ?_
          exact W.iret (v := r15) hx hb hret (fun t ht hWm => ⟨⟨r15, u15, rfl, Option.some.inj hF, h_end hGr hr hS ht hWm⟩, hS.F ht⟩) hS.2.2 dX1_writeChains_115
      · replace hF := it_f c6 hF
        refine lv_aload_n hx hb dX1_writeChains_26 rfl (lv_at hl 0 rfl) ?_
        obtain ⟨fs16, x16_, e16, f16, hF⟩ := gQ_s hF
        refine h_get (C := RX1) (T := TX1) (N := 7) hx hb hts in_X1 hown hGr hr e16 (by decide) rfl 0 (by decide) (hts _ q633) (fun _ h9 => h9) f16 dX1_writeChains_27 ?_
        obtain ⟨fs17, x17_, e17, f17, hF⟩ := gQ_s hF
        refine h_getN (C := RX2) (T := TX2) (N := 11) hx hb hts in_X2 hown hGr hr e17 (by decide) rfl 8 (by decide) (va_Nw.use rfl (hGr.nw q585 rfl)) (fun _ h9 => h9) f17 dX1_writeChains_30 ?_
        refine lv_iload_n hx hb dX1_writeChains_33 rfl (lv_at hl 1 rfl) ?_
        obtain ⟨fc18, ec18, hF⟩ := gC_s hF
        obtain ⟨r18, u18, e18, hF⟩ := bnd_s hF
        have mm18 : hle u18 out.2 := (show Mo u18 _ from mo_gC (mo_ite (mo_gQ (fun x21_ => mo_gC (mo_bnd (moX8_many u18 r18) hle_rf (fun r22 u22 m22 => mo_gC (mo_bnd (moJ8_append_2 D.2 n u22 x21_ r22) m22 (fun r23 u23 m23 => mo_gC (mo_bnd (moX8_cause u23 r18) m23 (fun r24 u24 m24 => mo_gC (mo_bnd (moJ9_charAt u24 (D.2 310) r24) m24 (fun r25 u25 m25 => mo_gC (mo_bnd (moJ8_append_3 u25 r23 r25) m25 (fun r26 u26 m26 => mo_tr m26 (ml1 u26 b0 (x1 + 1)))))))))))))) (mo_gQ (fun x27_ => mo_gC (mo_bnd (moJ8_append_3 u18 x27_ (32 : Int32)) hle_rf (fun r28 u28 m28 => mo_gQ (fun x29_ => mo_gC (mo_bnd (moX8_many u28 r18) m28 (fun r30 u30 m30 => mo_gC (mo_bnd (moJ8_append_2 D.2 n u30 x29_ r30) m30 (fun r31 u31 m31 => mo_gC (mo_bnd (moX8_cause u31 r18) m31 (fun r32 u32 m32 => mo_gC (mo_bnd (moJ9_charAt u32 (D.2 310) r32) m32 (fun r33 u33 m33 => mo_gC (mo_bnd (moJ8_append_3 u33 r31 r33) m33 (fun r34 u34 m34 => mo_tr m34 (ml1 u34 b0 (x1 + 1))))))))))))))))))) _ hF
        obtain ⟨mc18, ms18, hmc18, hms18⟩ := up_of (moJ2_get u5 x17_ x1 _ e18)
        replace hc := cst_call hc hmc18 hms18
        refine h_callFr (va_runF (hGr.K.1 10 _ rfl).2 (As := [.int x1]) (rest := []) ⟨hx, hb, hml, hown, hts⟩ (mgJ2_get l D A u5 x17_ x1 _ e18 mc18 ms18 hmc18 hms18) (va_cwF 1 hts (lw_app (lw_fi q1276 q934 q936 q106) (lw_meth q938)) rfl rfl rfl (fw_7 hGr) (by decide +kernel) ⟨Nat.le_of_ble_eq_true rfl, Nat.le_of_ble_eq_true rfl⟩) (h_preV hGr hr hS ec18 (by decide) (q := (RJ2, TJ2, 3)) rfl _) rfl rfl hl.1 rfl (lv_room (Nat.le_of_ble_eq_true rfl)) dX1_writeChains_34 ⟨(bud hc mm18 hmc hms).1, (bud hc mm18 hmc hms).2⟩) hS (fun rr uu H locs hw hr hS => ?_)
        obtain rfl : u18 = uu := (congrArg Prod.snd hw).symm
        obtain rfl : r18 = rr := (congrArg Prod.fst hw).symm
        obtain ⟨fs19, e19, hF⟩ := gC_s hF
        refine h_cast hx hb hown (hts _ q1277) hGr hr e19 (by decide) (T := TX8) (N := 3) rfl dX1_writeChains_39 ?_
        refine lv_astore_n (lv' := [(2, .ref r18), (0, .ref b0), (1, .int x1)]) hx hb dX1_writeChains_42 rfl hl (by decide) rfl (fun ls hl => ?_)
        refine lv_iload_n hx hb dX1_writeChains_43 rfl (lv_at hl 2 rfl) ?_
        refine lv_if_le (tgt := 57) hx hb dX1_writeChains_44 (by decide) (fun c20 => ?_) (fun c20 => ?_)
        · replace hF := it_t c20 hF
          refine lv_aload_n hx hb dX1_writeChains_57 rfl (lv_at hl 1 rfl) ?_
          obtain ⟨fs21, x21_, e21, f21, hF⟩ := gQ_s hF
          refine h_get (C := RX1) (T := TX1) (N := 7) hx hb hts in_X1 hown hGr hr e21 (by decide) rfl 6 (by decide) (hts _ q642) (fun _ h9 => h9) f21 dX1_writeChains_58 ?_
          refine lv_aload_n hx hb dX1_writeChains_61 rfl (lv_at hl 0 rfl) ?_
          obtain ⟨fc22, ec22, hF⟩ := gC_s hF
          obtain ⟨r22, u22, e22, hF⟩ := bnd_s hF
          have mm22 : hle u22 out.2 := (show Mo u22 _ from mo_gC (mo_bnd (moJ8_append_2 D.2 n u22 x21_ r22) hle_rf (fun r23 u23 m23 => mo_gC (mo_bnd (moX8_cause u23 r18) m23 (fun r24 u24 m24 => mo_gC (mo_bnd (moJ9_charAt u24 (D.2 310) r24) m24 (fun r25 u25 m25 => mo_gC (mo_bnd (moJ8_append_3 u25 r23 r25) m25 (fun r26 u26 m26 => mo_tr m26 (ml1 u26 b0 (x1 + 1))))))))))) _ hF
          obtain ⟨mc22, ms22, hmc22, hms22⟩ := up_of (moX8_many u18 r18 _ e22)
          replace hc := cst_call hc hmc22 hms22
          refine h_calli (va_runV (As := []) (rest := [.ref x21_]) ⟨hx, hb, hml, hown, hts⟩ (mgX8_many l D A u18 r18 _ e22 mc22 ms22 hmc22 hms22) (cwV 0 hts (lw_V q1298 q1048 q1049 q139 q1050) rfl rfl rfl (by decide +kernel) ⟨Nat.le_of_ble_eq_true rfl, Nat.le_of_ble_eq_true rfl⟩) (h_preV hGr hr hS ec22 (by decide) (q := (RX8, TX8, 3)) rfl _) rfl rfl hl.1 rfl (lv_room (Nat.le_of_ble_eq_true rfl)) dX1_writeChains_62 ⟨(bud hc mm22 hmc hms).1, (bud hc mm22 hmc hms).2⟩) hS (fun rr uu H locs hw hr hS => ?_)
          obtain rfl : u22 = uu := (congrArg Prod.snd hw).symm
          obtain rfl : r22 = rr := (congrArg Prod.fst hw).symm
          obtain ⟨fc23, ec23, hF⟩ := gC_s hF
          obtain ⟨r23, u23, e23, hF⟩ := bnd_s hF
          have mm23 : hle u23 out.2 := (show Mo u23 _ from mo_gC (mo_bnd (moX8_cause u23 r18) hle_rf (fun r24 u24 m24 => mo_gC (mo_bnd (moJ9_charAt u24 (D.2 310) r24) m24 (fun r25 u25 m25 => mo_gC (mo_bnd (moJ8_append_3 u25 r23 r25) m25 (fun r26 u26 m26 => mo_tr m26 (ml1 u26 b0 (x1 + 1))))))))) _ hF
          obtain ⟨mc23, ms23, hmc23, hms23⟩ := up_of (moJ8_append_2 D.2 n u22 x21_ r22 _ e23)
          replace hc := cst_call hc hmc23 hms23
          refine h_callr (va_runV (As := [.int r22]) (rest := []) ⟨hx, hb, hml, hown, hts⟩ (mgJ8_append_2 l D A u22 n x21_ r22 _ e23 mc23 ms23 hmc23 hms23) (cwV 1 hts (lw_V q1299 q416 q417 q112 q418) rfl rfl rfl (by decide +kernel) ⟨Nat.le_of_ble_eq_true rfl, Nat.le_of_ble_eq_true rfl⟩) (h_preV hGr hr hS ec23 (by decide) (q := (RJ8, TJ8, 4)) rfl _) rfl rfl hl.1 rfl (lv_room (Nat.le_of_ble_eq_true rfl)) dX1_writeChains_65 ⟨(bud hc mm23 hmc hms).1, (bud hc mm23 hmc hms).2⟩) hS (fun rr uu H locs hw hr hS => ?_)
          obtain rfl : u23 = uu := (congrArg Prod.snd hw).symm
          obtain rfl : r23 = rr := (congrArg Prod.fst hw).symm
          refine h_ldcwS hx hb hown (hGr.kst.2.2.2.1 _ (List.mem_of_getElem? (i := 0) rfl)) dX1_writeChains_68 ?_
          refine lv_aload_n hx hb dX1_writeChains_71 rfl (lv_at hl 0 rfl) ?_
          obtain ⟨fc24, ec24, hF⟩ := gC_s hF
          obtain ⟨r24, u24, e24, hF⟩ := bnd_s hF
          have mm24 : hle u24 out.2 := (show Mo u24 _ from mo_gC (mo_bnd (moJ9_charAt u24 (D.2 310) r24) hle_rf (fun r25 u25 m25 => mo_gC (mo_bnd (moJ8_append_3 u25 r23 r25) m25 (fun r26 u26 m26 => mo_tr m26 (ml1 u26 b0 (x1 + 1))))))) _ hF
          obtain ⟨mc24, ms24, hmc24, hms24⟩ := up_of (moX8_cause u23 r18 _ e24)
          replace hc := cst_call hc hmc24 hms24
          refine h_calli (va_runV (As := []) (rest := [.ref (D.2 310), .ref r23]) ⟨hx, hb, hml, hown, hts⟩ (mgX8_cause l D A u23 r18 _ e24 mc24 ms24 hmc24 hms24) (cwV 0 hts (lw_V q1301 q997 q998 q139 q999) rfl rfl rfl (by decide +kernel) ⟨Nat.le_of_ble_eq_true rfl, Nat.le_of_ble_eq_true rfl⟩) (h_preV hGr hr hS ec24 (by decide) (q := (RX8, TX8, 3)) rfl _) rfl rfl hl.1 rfl (lv_room (Nat.le_of_ble_eq_true rfl)) dX1_writeChains_72 ⟨(bud hc mm24 hmc hms).1, (bud hc mm24 hmc hms).2⟩) hS (fun rr uu H locs hw hr hS => ?_)
          obtain rfl : u24 = uu := (congrArg Prod.snd hw).symm
          obtain rfl : r24 = rr := (congrArg Prod.fst hw).symm
          obtain ⟨fc25, ec25, hF⟩ := gC_s hF
          obtain ⟨r25, u25, e25, hF⟩ := bnd_s hF
          have mm25 : hle u25 out.2 := (show Mo u25 _ from mo_gC (mo_bnd (moJ8_append_3 u25 r23 r25) hle_rf (fun r26 u26 m26 => mo_tr m26 (ml1 u26 b0 (x1 + 1))))) _ hF
          obtain ⟨mc25, ms25, hmc25, hms25⟩ := up_of (moJ9_charAt u24 (D.2 310) r24 _ e25)
          replace hc := cst_call hc hmc25 hms25
          refine h_calli (va_runV (As := [.int r24]) (rest := [.ref r23]) ⟨hx, hb, hml, hown, hts⟩ (mgJ9_charAt l D A u24 (D.2 310) r24 _ e25 mc25 ms25 hmc25 hms25) (cwV 1 hts (lw_V q1302 q1303 q1304 q113 q1305) rfl rfl rfl (by decide +kernel) ⟨Nat.le_of_ble_eq_true rfl, Nat.le_of_ble_eq_true rfl⟩) (h_preV hGr hr hS ec25 (by decide) (q := (RJ9, TJ9, 4)) rfl _) rfl rfl hl.1 rfl (lv_room (Nat.le_of_ble_eq_true rfl)) dX1_writeChains_75 ⟨(bud hc mm25 hmc hms).1, (bud hc mm25 hmc hms).2⟩) hS (fun rr uu H locs hw hr hS => ?_)
          obtain rfl : u25 = uu := (congrArg Prod.snd hw).symm
          obtain rfl : r25 = rr := (congrArg Prod.fst hw).symm
          obtain ⟨fc26, ec26, hF⟩ := gC_s hF
          obtain ⟨r26, u26, e26, hF⟩ := bnd_s hF
          have mm26 : hle u26 out.2 := (show Mo u26 _ from mo_tr hle_rf (ml1 u26 b0 (x1 + 1))) _ hF
          obtain ⟨mc26, ms26, hmc26, hms26⟩ := up_of (moJ8_append_3 u25 r23 r25 _ e26)
          replace hc := cst_call hc hmc26 hms26
          refine h_callr (va_runV (As := [.int r25]) (rest := []) ⟨hx, hb, hml, hown, hts⟩ (mgJ8_append_3 l D A u25 r23 r25 _ e26 mc26 ms26 hmc26 hms26) (cwV 1 hts (lw_V q1278 q1279 q1280 q112 q1281) rfl rfl rfl (by decide +kernel) ⟨Nat.le_of_ble_eq_true rfl, Nat.le_of_ble_eq_true rfl⟩) (h_preV hGr hr hS ec26 (by decide) (q := (RJ8, TJ8, 4)) rfl _) rfl rfl hl.1 rfl (lv_room (Nat.le_of_ble_eq_true rfl)) dX1_writeChains_78 ⟨(bud hc mm26 hmc hms).1, (bud hc mm26 hmc hms).2⟩) hS (fun rr uu H locs hw hr hS => ?_)
          obtain rfl : u26 = uu := (congrArg Prod.snd hw).symm
          obtain rfl : r26 = rr := (congrArg Prod.fst hw).symm
          refine lv_pop hx hb dX1_writeChains_81 rfl ?_
          refine lv_iinc (v := (x1 + 1)) (lv' := [(1, .int (x1 + 1)), (2, .ref r18), (0, .ref b0)]) hx hb dX1_writeChains_82 hl (k := 2) rfl rfl (by decide) rfl (fun ls hl => ?_)
          refine lv_goto (tgt := 10) hx hb dX1_writeChains_85 (by decide) ?_
          exact lp1 u26 b0 (x1 + 1) hF _ _ _ _ hc hr hS ls (lv_sub hl [2, 0] rfl)
        · replace hF := it_f c20 hF
          refine lv_aload_n hx hb dX1_writeChains_47 rfl (lv_at hl 1 rfl) ?_
          obtain ⟨fs27, x27_, e27, f27, hF⟩ := gQ_s hF
          refine h_get (C := RX1) (T := TX1) (N := 7) hx hb hts in_X1 hown hGr hr e27 (by decide) rfl 6 (by decide) (hts _ q642) (fun _ h9 => h9) f27 dX1_writeChains_48 ?_
          refine lv_bipush (v := 32) hx hb dX1_writeChains_51 (by decide) ?_
          obtain ⟨fc28, ec28, hF⟩ := gC_s hF
          obtain ⟨r28, u28, e28, hF⟩ := bnd_s hF
          have mm28 : hle u28 out.2 := (show Mo u28 _ from mo_gQ (fun x29_ => mo_gC (mo_bnd (moX8_many u28 r18) hle_rf (fun r30 u30 m30 => mo_gC (mo_bnd (moJ8_append_2 D.2 n u30 x29_ r30) m30 (fun r31 u31 m31 => mo_gC (mo_bnd (moX8_cause u31 r18) m31 (fun r32 u32 m32 => mo_gC (mo_bnd (moJ9_charAt u32 (D.2 310) r32) m32 (fun r33 u33 m33 => mo_gC (mo_bnd (moJ8_append_3 u33 r31 r33) m33 (fun r34 u34 m34 => mo_tr m34 (ml1 u34 b0 (x1 + 1)))))))))))))) _ hF
          obtain ⟨mc28, ms28, hmc28, hms28⟩ := up_of (moJ8_append_3 u18 x27_ (32 : Int32) _ e28)
          replace hc := cst_call hc hmc28 hms28
          refine h_callr (va_runV (As := [.int 32]) (rest := []) ⟨hx, hb, hml, hown, hts⟩ (mgJ8_append_3 l D A u18 x27_ (32 : Int32) _ e28 mc28 ms28 hmc28 hms28) (cwV 1 hts (lw_V q1278 q1279 q1280 q112 q1281) rfl rfl rfl (by decide +kernel) ⟨Nat.le_of_ble_eq_true rfl, Nat.le_of_ble_eq_true rfl⟩) (h_preV hGr hr hS ec28 (by decide) (q := (RJ8, TJ8, 4)) rfl _) rfl rfl hl.1 rfl (lv_room (Nat.le_of_ble_eq_true rfl)) dX1_writeChains_53 ⟨(bud hc mm28 hmc hms).1, (bud hc mm28 hmc hms).2⟩) hS (fun rr uu H locs hw hr hS => ?_)
          obtain rfl : u28 = uu := (congrArg Prod.snd hw).symm
          obtain rfl : r28 = rr := (congrArg Prod.fst hw).symm
          refine lv_pop hx hb dX1_writeChains_56 rfl ?_
          refine lv_aload_n hx hb dX1_writeChains_57 rfl (lv_at hl 1 rfl) ?_
          obtain ⟨fs29, x29_, e29, f29, hF⟩ := gQ_s hF
          refine h_get (C := RX1) (T := TX1) (N := 7) hx hb hts in_X1 hown hGr hr e29 (by decide) rfl 6 (by decide) (hts _ q642) (fun _ h9 => h9) f29 dX1_writeChains_58 ?_
          refine lv_aload_n hx hb dX1_writeChains_61 rfl (lv_at hl 0 rfl) ?_
          obtain ⟨fc30, ec30, hF⟩ := gC_s hF
          obtain ⟨r30, u30, e30, hF⟩ := bnd_s hF
          have mm30 : hle u30 out.2 := (show Mo u30 _ from mo_gC (mo_bnd (moJ8_append_2 D.2 n u30 x29_ r30) hle_rf (fun r31 u31 m31 => mo_gC (mo_bnd (moX8_cause u31 r18) m31 (fun r32 u32 m32 => mo_gC (mo_bnd (moJ9_charAt u32 (D.2 310) r32) m32 (fun r33 u33 m33 => mo_gC (mo_bnd (moJ8_append_3 u33 r31 r33) m33 (fun r34 u34 m34 => mo_tr m34 (ml1 u34 b0 (x1 + 1))))))))))) _ hF
          obtain ⟨mc30, ms30, hmc30, hms30⟩ := up_of (moX8_many u28 r18 _ e30)
          replace hc := cst_call hc hmc30 hms30
          refine h_calli (va_runV (As := []) (rest := [.ref x29_]) ⟨hx, hb, hml, hown, hts⟩ (mgX8_many l D A u28 r18 _ e30 mc30 ms30 hmc30 hms30) (cwV 0 hts (lw_V q1298 q1048 q1049 q139 q1050) rfl rfl rfl (by decide +kernel) ⟨Nat.le_of_ble_eq_true rfl, Nat.le_of_ble_eq_true rfl⟩) (h_preV hGr hr hS ec30 (by decide) (q := (RX8, TX8, 3)) rfl _) rfl rfl hl.1 rfl (lv_room (Nat.le_of_ble_eq_true rfl)) dX1_writeChains_62 ⟨(bud hc mm30 hmc hms).1, (bud hc mm30 hmc hms).2⟩) hS (fun rr uu H locs hw hr hS => ?_)
          obtain rfl : u30 = uu := (congrArg Prod.snd hw).symm
          obtain rfl : r30 = rr := (congrArg Prod.fst hw).symm
          obtain ⟨fc31, ec31, hF⟩ := gC_s hF
          obtain ⟨r31, u31, e31, hF⟩ := bnd_s hF
          have mm31 : hle u31 out.2 := (show Mo u31 _ from mo_gC (mo_bnd (moX8_cause u31 r18) hle_rf (fun r32 u32 m32 => mo_gC (mo_bnd (moJ9_charAt u32 (D.2 310) r32) m32 (fun r33 u33 m33 => mo_gC (mo_bnd (moJ8_append_3 u33 r31 r33) m33 (fun r34 u34 m34 => mo_tr m34 (ml1 u34 b0 (x1 + 1))))))))) _ hF
          obtain ⟨mc31, ms31, hmc31, hms31⟩ := up_of (moJ8_append_2 D.2 n u30 x29_ r30 _ e31)
          replace hc := cst_call hc hmc31 hms31
          refine h_callr (va_runV (As := [.int r30]) (rest := []) ⟨hx, hb, hml, hown, hts⟩ (mgJ8_append_2 l D A u30 n x29_ r30 _ e31 mc31 ms31 hmc31 hms31) (cwV 1 hts (lw_V q1299 q416 q417 q112 q418) rfl rfl rfl (by decide +kernel) ⟨Nat.le_of_ble_eq_true rfl, Nat.le_of_ble_eq_true rfl⟩) (h_preV hGr hr hS ec31 (by decide) (q := (RJ8, TJ8, 4)) rfl _) rfl rfl hl.1 rfl (lv_room (Nat.le_of_ble_eq_true rfl)) dX1_writeChains_65 ⟨(bud hc mm31 hmc hms).1, (bud hc mm31 hmc hms).2⟩) hS (fun rr uu H locs hw hr hS => ?_)
          obtain rfl : u31 = uu := (congrArg Prod.snd hw).symm
          obtain rfl : r31 = rr := (congrArg Prod.fst hw).symm
          refine h_ldcwS hx hb hown (hGr.kst.2.2.2.1 _ (List.mem_of_getElem? (i := 0) rfl)) dX1_writeChains_68 ?_
          refine lv_aload_n hx hb dX1_writeChains_71 rfl (lv_at hl 0 rfl) ?_
          obtain ⟨fc32, ec32, hF⟩ := gC_s hF
          obtain ⟨r32, u32, e32, hF⟩ := bnd_s hF
          have mm32 : hle u32 out.2 := (show Mo u32 _ from mo_gC (mo_bnd (moJ9_charAt u32 (D.2 310) r32) hle_rf (fun r33 u33 m33 => mo_gC (mo_bnd (moJ8_append_3 u33 r31 r33) m33 (fun r34 u34 m34 => mo_tr m34 (ml1 u34 b0 (x1 + 1))))))) _ hF
          obtain ⟨mc32, ms32, hmc32, hms32⟩ := up_of (moX8_cause u31 r18 _ e32)
          replace hc := cst_call hc hmc32 hms32
          refine h_calli (va_runV (As := []) (rest := [.ref (D.2 310), .ref r31]) ⟨hx, hb, hml, hown, hts⟩ (mgX8_cause l D A u31 r18 _ e32 mc32 ms32 hmc32 hms32) (cwV 0 hts (lw_V q1301 q997 q998 q139 q999) rfl rfl rfl (by decide +kernel) ⟨Nat.le_of_ble_eq_true rfl, Nat.le_of_ble_eq_true rfl⟩) (h_preV hGr hr hS ec32 (by decide) (q := (RX8, TX8, 3)) rfl _) rfl rfl hl.1 rfl (lv_room (Nat.le_of_ble_eq_true rfl)) dX1_writeChains_72 ⟨(bud hc mm32 hmc hms).1, (bud hc mm32 hmc hms).2⟩) hS (fun rr uu H locs hw hr hS => ?_)
          obtain rfl : u32 = uu := (congrArg Prod.snd hw).symm
          obtain rfl : r32 = rr := (congrArg Prod.fst hw).symm
          obtain ⟨fc33, ec33, hF⟩ := gC_s hF
          obtain ⟨r33, u33, e33, hF⟩ := bnd_s hF
          have mm33 : hle u33 out.2 := (show Mo u33 _ from mo_gC (mo_bnd (moJ8_append_3 u33 r31 r33) hle_rf (fun r34 u34 m34 => mo_tr m34 (ml1 u34 b0 (x1 + 1))))) _ hF
          obtain ⟨mc33, ms33, hmc33, hms33⟩ := up_of (moJ9_charAt u32 (D.2 310) r32 _ e33)
          replace hc := cst_call hc hmc33 hms33
          refine h_calli (va_runV (As := [.int r32]) (rest := [.ref r31]) ⟨hx, hb, hml, hown, hts⟩ (mgJ9_charAt l D A u32 (D.2 310) r32 _ e33 mc33 ms33 hmc33 hms33) (cwV 1 hts (lw_V q1302 q1303 q1304 q113 q1305) rfl rfl rfl (by decide +kernel) ⟨Nat.le_of_ble_eq_true rfl, Nat.le_of_ble_eq_true rfl⟩) (h_preV hGr hr hS ec33 (by decide) (q := (RJ9, TJ9, 4)) rfl _) rfl rfl hl.1 rfl (lv_room (Nat.le_of_ble_eq_true rfl)) dX1_writeChains_75 ⟨(bud hc mm33 hmc hms).1, (bud hc mm33 hmc hms).2⟩) hS (fun rr uu H locs hw hr hS => ?_)
          obtain rfl : u33 = uu := (congrArg Prod.snd hw).symm
          obtain rfl : r33 = rr := (congrArg Prod.fst hw).symm
          obtain ⟨fc34, ec34, hF⟩ := gC_s hF
          obtain ⟨r34, u34, e34, hF⟩ := bnd_s hF
          have mm34 : hle u34 out.2 := (show Mo u34 _ from mo_tr hle_rf (ml1 u34 b0 (x1 + 1))) _ hF
          obtain ⟨mc34, ms34, hmc34, hms34⟩ := up_of (moJ8_append_3 u33 r31 r33 _ e34)
          replace hc := cst_call hc hmc34 hms34
          refine h_callr (va_runV (As := [.int r33]) (rest := []) ⟨hx, hb, hml, hown, hts⟩ (mgJ8_append_3 l D A u33 r31 r33 _ e34 mc34 ms34 hmc34 hms34) (cwV 1 hts (lw_V q1278 q1279 q1280 q112 q1281) rfl rfl rfl (by decide +kernel) ⟨Nat.le_of_ble_eq_true rfl, Nat.le_of_ble_eq_true rfl⟩) (h_preV hGr hr hS ec34 (by decide) (q := (RJ8, TJ8, 4)) rfl _) rfl rfl hl.1 rfl (lv_room (Nat.le_of_ble_eq_true rfl)) dX1_writeChains_78 ⟨(bud hc mm34 hmc hms).1, (bud hc mm34 hmc hms).2⟩) hS (fun rr uu H locs hw hr hS => ?_)
          obtain rfl : u34 = uu := (congrArg Prod.snd hw).symm
          obtain rfl : r34 = rr := (congrArg Prod.fst hw).symm
          refine lv_pop hx hb dX1_writeChains_81 rfl ?_
          refine lv_iinc (v := (x1 + 1)) (lv' := [(1, .int (x1 + 1)), (2, .ref r18), (0, .ref b0)]) hx hb dX1_writeChains_82 hl (k := 2) rfl rfl (by decide) rfl (fun ls hl => ?_)
          refine lv_goto (tgt := 10) hx hb dX1_writeChains_85 (by decide) ?_
          exact lp1 u34 b0 (x1 + 1) hF _ _ _ _ hc hr hS ls (lv_sub hl [2, 0] rfl)
  have lp1 := loop n
  have ml1 := moX1_writeChains_r D.2 n
  have hc : cst h0 0 0 h := by rw [eh0]; exact cst_0
  unfold GX1_writeChains GX1_writeChains_0 at hF
  refine lv_aload_n hx hb dX1_writeChains_0 rfl (lv_at hl 0 rfl) ?_
  obtain ⟨fs1, x1_, e1, f1, hF⟩ := gQ_s hF
  refine h_get (C := RX1) (T := TX1) (N := 7) hx hb hts in_X1 hown hGr hr e1 (by decide) rfl 6 (by decide) (hts _ q642) (fun _ h9 => h9) f1 dX1_writeChains_1 ?_
  refine lv_iconst (v := 0) hx hb dX1_writeChains_4 (by decide) ?_
  obtain ⟨fc2, ec2, hF⟩ := gC_s hF
  obtain ⟨r2, u2, e2, hF⟩ := bnd_s hF
  have mm2 : hle u2 out.2 := (show Mo u2 _ from mo_tr hle_rf (ml1 u2 a0 (0 : Int32))) _ hF
  obtain ⟨mc2, ms2, hmc2, hms2⟩ := up_of (moJ8_setLength h x1_ (0 : Int32) _ e2)
  replace hc := cst_call hc hmc2 hms2
  refine h_callv (va_runV (As := [.int 0]) (rest := []) ⟨hx, hb, hml, hown, hts⟩ (mgJ8_setLength l D A h x1_ (0 : Int32) _ e2 mc2 ms2 hmc2 hms2) (cwV 1 hts (lw_V q1207 q1208 q1209 q112 q1210) rfl rfl rfl (by decide +kernel) ⟨Nat.le_of_ble_eq_true rfl, Nat.le_of_ble_eq_true rfl⟩) (h_preV hGr hr hS ec2 (by decide) (q := (RJ8, TJ8, 4)) rfl _) rfl rfl hl.1 rfl (lv_room (Nat.le_of_ble_eq_true rfl)) dX1_writeChains_5 ⟨(bud hc mm2 hmc hms).1, (bud hc mm2 hmc hms).2⟩) hS (fun uu H locs hw hr hS => ?_)
  obtain rfl : u2 = uu := (congrArg Prod.snd hw).symm
  refine lv_iconst (v := 0) hx hb dX1_writeChains_8 (by decide) ?_
  refine lv_istore_n (lv' := [(1, .int 0), (0, .ref a0)]) hx hb dX1_writeChains_9 rfl hl (by decide) rfl (fun ls hl => ?_)
  exact lp1 u2 a0 (0 : Int32) hF _ _ _ _ hc hr hS ls (lv_sub hl [1, 0] rfl)

def GX1_writtenByte (h : Hp) (a0 : Nat) (p1 : Int32) : Option ((Int32 ⊕ Xq) × Hp) := gQ h a0 1 6 (fun x1_ => gC h x1_ 12 (bnd (GJ8_length h x1_) (fun r2 u2 => bnx (GX1_requireIndex u2 p1 r2) (fun r3 u3 => gQ u3 a0 1 6 (fun x4_ => gC u3 x4_ 12 (bnd (GJ8_charAt u3 x4_ p1) (fun r5 u5 => some (.inl r5, u5))))))))
theorem moX1_writtenByte (h : Hp) (a0 : Nat) (p1 : Int32) : Mo h (GX1_writtenByte h a0 p1) := by
  unfold GX1_writtenByte
  exact mo_gQ (fun x1_ => mo_gC (mo_bnd (moJ8_length h x1_) hle_rf (fun r2 u2 m2 => mo_bnx (moX1_requireIndex u2 p1 r2) m2 (fun r3 u3 m3 => mo_gQ (fun x4_ => mo_gC (mo_bnd (moJ8_charAt u3 x4_ p1) m3 (fun r5 u5 m5 => mo_ret m5)))))))
set_option maxHeartbeats 4000000 in
set_option maxRecDepth 100000 in
theorem mgX1_writtenByte (l : Launch) (hl0 : l.stackTraces = false) (D : HD) (A : Nat → Prop) (h : Hp) (a0 : Nat) (p1 : Int32) (out : (Int32 ⊕ Xq) × Hp) (hF : GX1_writtenByte h a0 p1 = some out) (mc ms : Nat) (hmc : hCc out.2 = hCc h + mc) (hms : hSl out.2 = hSl h + ms) : vx_Met l yX1_writtenByte (ws_ yX1_writtenByte cX1_writtenByte 2 (some .int)) ({ frames := 7, cells := mc, slots := ms, locals := 121 }) (va_Pc [.ref a0, .int p1] (hW D A h)) (va_Qi (fun r u => ((.inl r : Int32 ⊕ Xq), u) = out) (hW D A) A) (xC D A out) mc ms A := by
  refine vx_ofW (cc := cX1_writtenByte) (maxL := 2) (ret := (some .int)) (by decide +kernel) rfl ?_
  intro p e s m args below meth c s₁ B hml htb hv
  obtain ⟨rfl, hr, hGr⟩ := hv
  have hx := B.exec
  have hb := B.bytes
  have hret := B.returns
  have hts := atoms_spec (ws := (ws_ yX1_writtenByte cX1_writtenByte 2 (some .int))) B.pre
  have hts : ∀ w ∈ lw_all, w.before _ s = true := fun w h => hts w (List.mem_cons_of_mem _ h)
  have hown : s.vm.findClass RX1 = some m.cls := findClass_of_methodNamed B.named
  have hlocks := B.notSynchronized
  have hS : va_S A s.heap s.heap [] := va_S.rf
  have hc : cst h 0 0 h := cst_0
  have hl := lv_entry ([.ref a0, .int p1]) (n := 2) (Nat.le_of_ble_eq_true rfl)
  rw [lg_entry_eq]
  generalize (lg_sl ([.ref a0, .int p1]) ++ List.replicate (2 - (lg_sl ([.ref a0, .int p1])).length) Slot.unset).toArray = ls at hl ⊢
  have hl : lv_has ls 2 [(0, .ref a0), (1, .int p1)] := hl
  unfold GX1_writtenByte at hF
  refine lv_iload_n hx hb dX1_writtenByte_0 rfl (lv_at hl 1 rfl) ?_
  refine lv_aload_n hx hb dX1_writtenByte_1 rfl (lv_at hl 0 rfl) ?_
  obtain ⟨fs1, x1_, e1, f1, hF⟩ := gQ_s hF
  refine h_get (C := RX1) (T := TX1) (N := 7) hx hb hts in_X1 hown hGr hr e1 (by decide) rfl 6 (by decide) (hts _ q642) (fun _ h9 => h9) f1 dX1_writtenByte_2 ?_
  obtain ⟨fc2, ec2, hF⟩ := gC_s hF
  obtain ⟨r2, u2, e2, hF⟩ := bnd_s hF
  have mm2 : hle u2 out.2 := (show Mo u2 _ from mo_bnx (moX1_requireIndex u2 p1 r2) hle_rf (fun r3 u3 m3 => mo_gQ (fun x4_ => mo_gC (mo_bnd (moJ8_charAt u3 x4_ p1) m3 (fun r5 u5 m5 => mo_ret m5))))) _ hF
  obtain ⟨mc2, ms2, hmc2, hms2⟩ := up_of (moJ8_length h x1_ _ e2)
  replace hc := cst_call hc hmc2 hms2
  refine h_calli (va_runV (As := []) (rest := [.int p1]) ⟨hx, hb, hml, hown, hts⟩ (mgJ8_length l D A h x1_ _ e2 mc2 ms2 hmc2 hms2) (cwV 0 hts (lw_V q1317 q462 q2495 q112 q463) rfl rfl rfl (by decide +kernel) ⟨Nat.le_of_ble_eq_true rfl, Nat.le_of_ble_eq_true rfl⟩) (h_preV hGr hr hS ec2 (by decide) (q := (RJ8, TJ8, 4)) rfl _) rfl rfl hl.1 rfl (lv_room (Nat.le_of_ble_eq_true rfl)) dX1_writtenByte_5 ⟨(bud hc mm2 hmc hms).1, (bud hc mm2 hmc hms).2⟩) hS (fun rr uu H locs hw hr hS => ?_)
  obtain rfl : u2 = uu := (congrArg Prod.snd hw).symm
  obtain rfl : r2 = rr := (congrArg Prod.fst hw).symm
  rcases bnx_s hF with ⟨r3, u3, e3, hF⟩ | ⟨q3, u3, e3, hF⟩
  rotate_left
  · obtain ⟨mc3, ms3, hmc3, hms3⟩ := up_of (moX1_requireIndex u2 p1 r2 _ e3)
    have hcx := cst_call hc hmc3 hms3
    have bx3 := bud_r hcx hF hmc hms
    refine h_xthrv rfl (vx_runS (As := [.int p1, .int r2]) (rest := []) ⟨hx, hb, hml, hown, hts⟩ (mgX1_requireIndex l hl0 D A u2 p1 r2 _ e3 mc3 ms3 hmc3 hms3) (va_cwS 2 hts (lw_S q1693 q1694 q101 q1695) rfl rfl rfl (by decide +kernel) ⟨Nat.le_of_ble_eq_true rfl, Nat.le_of_ble_eq_true rfl⟩) (h_preS hGr hr hS _) rfl rfl hl.1 rfl (lv_room (Nat.le_of_ble_eq_true rfl)) dX1_writtenByte_8 ⟨bx3.1, bx3.2⟩) hS (fun E9 q9 u9 H locs ce9 e1 e2 e3 hr hS h1 h2 h3 => ?_)
    exact h_xpass hGr htb hlocks hF bx3 e1 e2 e3 hr hS h1 h2 h3
  have mm3 : hle u3 out.2 := (show Mo u3 _ from mo_gQ (fun x4_ => mo_gC (mo_bnd (moJ8_charAt u3 x4_ p1) hle_rf (fun r5 u5 m5 => mo_ret m5)))) _ hF
  obtain ⟨mc3, ms3, hmc3, hms3⟩ := up_of (moX1_requireIndex u2 p1 r2 _ e3)
  replace hc := cst_call hc hmc3 hms3
  refine h_xretv rfl (vx_runS (As := [.int p1, .int r2]) (rest := []) ⟨hx, hb, hml, hown, hts⟩ (mgX1_requireIndex l hl0 D A u2 p1 r2 _ e3 mc3 ms3 hmc3 hms3) (va_cwS 2 hts (lw_S q1693 q1694 q101 q1695) rfl rfl rfl (by decide +kernel) ⟨Nat.le_of_ble_eq_true rfl, Nat.le_of_ble_eq_true rfl⟩) (h_preS hGr hr hS _) rfl rfl hl.1 rfl (lv_room (Nat.le_of_ble_eq_true rfl)) dX1_writtenByte_8 ⟨(bud hc mm3 hmc hms).1, (bud hc mm3 hmc hms).2⟩) hS (fun H locs hr hS => ?_)
  refine lv_aload_n hx hb dX1_writtenByte_11 rfl (lv_at hl 0 rfl) ?_
  obtain ⟨fs4, x4_, e4, f4, hF⟩ := gQ_s hF
  refine h_get (C := RX1) (T := TX1) (N := 7) hx hb hts in_X1 hown hGr hr e4 (by decide) rfl 6 (by decide) (hts _ q642) (fun _ h9 => h9) f4 dX1_writtenByte_12 ?_
  refine lv_iload_n hx hb dX1_writtenByte_15 rfl (lv_at hl 1 rfl) ?_
  obtain ⟨fc5, ec5, hF⟩ := gC_s hF
  obtain ⟨r5, u5, e5, hF⟩ := bnd_s hF
  have mm5 : hle u5 out.2 := (show Mo u5 _ from mo_ret hle_rf) _ hF
  obtain ⟨mc5, ms5, hmc5, hms5⟩ := up_of (moJ8_charAt u3 x4_ p1 _ e5)
  replace hc := cst_call hc hmc5 hms5
  refine h_calli (va_runV (As := [.int p1]) (rest := []) ⟨hx, hb, hml, hown, hts⟩ (mgJ8_charAt l D A u3 x4_ p1 _ e5 mc5 ms5 hmc5 hms5) (cwV 1 hts (lw_V q1926 q1927 q1928 q112 q1929) rfl rfl rfl (by decide +kernel) ⟨Nat.le_of_ble_eq_true rfl, Nat.le_of_ble_eq_true rfl⟩) (h_preV hGr hr hS ec5 (by decide) (q := (RJ8, TJ8, 4)) rfl _) rfl rfl hl.1 rfl (lv_room (Nat.le_of_ble_eq_true rfl)) dX1_writtenByte_16 ⟨(bud hc mm5 hmc hms).1, (bud hc mm5 hmc hms).2⟩) hS (fun rr uu H locs hw hr hS => ?_)
  obtain rfl : u5 = uu := (congrArg Prod.snd hw).symm
  obtain rfl : r5 = rr := (congrArg Prod.fst hw).symm
  have bz := bud_r hc hF hmc hms
  refine vx_ret ?_
  refine W.widen (k := mc) (n := ms) bz.1 bz.2 ?_
  exact W.iret (v := r5) hx hb hret (fun t ht hWm => ⟨⟨r5, u5, rfl, Option.some.inj hF, h_end hGr hr hS ht hWm⟩, hS.F ht⟩) hS.2.2 dX1_writtenByte_19
