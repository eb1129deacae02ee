/-! the component and what it calls of the library, walked by program (tool/dc.py): G.. the pure function, mo.. its growth, mg.. the contract -/
def GX1_load (kz : Nat → Nat) (n : Nat) (h : Hp) (a0 : Nat) (p1 : Int32) : Option ((Int32 ⊕ Xq) × Hp) := gI h a0 1 4 (fun x1_ => bnd (GX1_inRange h ((p1).toInt64) (0 : Int64) ((x1_).toInt64)) (fun r2 u2 => bnx (GX1_requireArgument u2 r2) (fun r3 u3 => nW u3 5 [.int 0, .null, .int 0, .int 0, .null] 5 (fun a4_ h4 => bnd (GX6_init h4 a4_ a0 p1) (fun r5 u5 => gC u5 a4_ 5 (bnh (GX6_read kz n u5 a4_) (fun r6 u6 => gC u6 a0 1 (bnd (GX1_become u6 a0 r6) (fun r12 u12 => gQ u12 a0 1 0 (fun x13_ => gI u12 x13_ 2 1 (fun x14_ => gC u12 a4_ 5 (bnd (GX6_close u12 a4_) (fun r15 u15 => some (.inl x14_, u15)))))))) (fun k6 q6 u6 => if k6 = 4 then gC u6 a4_ 5 (bnd (GX6_close u6 a4_) (fun r7 u7 => gC u7 q6 6 (gI u7 q6 6 7 (fun x9_ => pV u7 a0 1 5 (.int x9_) (fun h10 => gI h10 q6 6 6 (fun x11_ => some (.inl x11_, h10))))))) else none)))))))
theorem moX1_load (kz : Nat → Nat) (n : Nat) (h : Hp) (a0 : Nat) (p1 : Int32) : Mo h (GX1_load kz n h a0 p1) := by
  unfold GX1_load
  exact mo_gI (fun x1_ => mo_bnd (moX1_inRange h ((p1).toInt64) (0 : Int64) ((x1_).toInt64)) hle_rf (fun r2 u2 m2 => mo_bnx (moX1_requireArgument u2 r2) m2 (fun r3 u3 m3 => mo_nW m3 (fun a4_ h4 m4 => mo_bnd (moX6_init h4 a4_ a0 p1) m4 (fun r5 u5 m5 => mo_gC (mo_bnh (moX6_read kz n u5 a4_) m5 (fun r6 u6 m6 => mo_gC (mo_bnd (moX1_become u6 a0 r6) m6 (fun r12 u12 m12 => mo_gQ (fun x13_ => mo_gI (fun x14_ => mo_gC (mo_bnd (moX6_close u12 a4_) m12 (fun r15 u15 m15 => mo_ret m15))))))) (fun k6 q6 u6 m6 => mo_ite (mo_gC (mo_bnd (moX6_close u6 a4_) m6 (fun r7 u7 m7 => mo_gC (mo_gI (fun x9_ => mo_pV m7 (fun h10 m10 => mo_gI (fun x11_ => mo_ret m10))))))) mo_no)))))))
set_option maxHeartbeats 4000000 in
set_option maxRecDepth 100000 in
theorem mgX1_load (l : Launch) (hl0 : l.stackTraces = false) (D : HD) (A : Nat → Prop) (h : Hp) (n : Nat) (a0 : Nat) (p1 : Int32) (out : (Int32 ⊕ Xq) × Hp) (hF : GX1_load D.2 n h a0 p1 = some out) (mc ms : Nat) (hmc : hCc out.2 = hCc h + mc) (hms : hSl out.2 = hSl h + ms) : vx_Met l yX1_load (wsW_ yX1_load cX1_load 5 (some .int) [(24, 40, 46, 105), (47, 51, 54, 105), (14, 44, 64, 111), (46, 64, 64, 111)]) ({ frames := 12, cells := mc, slots := ms, locals := 3190 }) (va_Pc [.ref a0, .int p1] (hW D A h)) (va_Qi (fun r u => ((.inl r : Int32 ⊕ Xq), u) = out) (hW D A) A) (xC D A out) mc ms A := by
  refine vx_ofWH (cc := cX1_load) (maxL := 5) (ret := (some .int)) (by decide +kernel) rfl ?_
  intro p e s m args below meth c s₁ B hml hv
  obtain ⟨rfl, hr, hGr⟩ := hv
  have hx := B.exec
  have hb := B.bytes
  have hret := B.returns
  have hts := atoms_spec (ws := (wsW_ yX1_load cX1_load 5 (some .int) [(24, 40, 46, 105), (47, 51, 54, 105), (14, 44, 64, 111), (46, 64, 64, 111)])) B.pre
  have htb : c.exceptionTable.toList = tableOf [(24, 40, 46, 105), (47, 51, 54, 105), (14, 44, 64, 111), (46, 64, 64, 111)] := vx_table (x := yX1_load) B (hts _ List.mem_cons_self)
  have hts : ∀ w ∈ lw_all, w.before _ s = true := fun w h => hts w (List.mem_cons_of_mem _ h)
  have hown : s.vm.findClass RX1 = some m.cls := findClass_of_methodNamed B.named
  have hlocks := B.notSynchronized
  have hS : va_S A s.heap s.heap [] := va_S.rf
  have hc : cst h 0 0 h := cst_0
  have hl := lv_entry ([.ref a0, .int p1]) (n := 5) (Nat.le_of_ble_eq_true rfl)
  rw [lg_entry_eq]
  generalize (lg_sl ([.ref a0, .int p1]) ++ List.replicate (5 - (lg_sl ([.ref a0, .int p1])).length) Slot.unset).toArray = ls at hl ⊢
  have hl : lv_has ls 5 [(0, .ref a0), (1, .int p1)] := hl
  unfold GX1_load at hF
  refine lv_iload_n hx hb dX1_load_0 rfl (lv_at hl 1 rfl) ?_
  refine lv_i2l (v := (p1).toInt64) hx hb dX1_load_1 rfl ?_
  refine lv_lconst (v := 0) hx hb dX1_load_2 (by decide) ?_
  refine lv_aload_n hx hb dX1_load_3 rfl (lv_at hl 0 rfl) ?_
  obtain ⟨fs1, x1_, e1, f1, hF⟩ := gI_s hF
  refine h_get (C := RX1) (T := TX1) (N := 7) hx hb hts in_X1 hown hGr hr e1 (by decide) rfl 4 (by decide) (hts _ q639) (fun _ h9 => h9) f1 dX1_load_4 ?_
  refine lv_i2l (v := (x1_).toInt64) hx hb dX1_load_7 rfl ?_
  obtain ⟨r2, u2, e2, hF⟩ := bnd_s hF
  have mm2 : hle u2 out.2 := (show Mo u2 _ from mo_bnx (moX1_requireArgument u2 r2) hle_rf (fun r3 u3 m3 => mo_nW m3 (fun a4_ h4 m4 => mo_bnd (moX6_init h4 a4_ a0 p1) m4 (fun r5 u5 m5 => mo_gC (mo_bnh (moX6_read D.2 n u5 a4_) m5 (fun r6 u6 m6 => mo_gC (mo_bnd (moX1_become u6 a0 r6) m6 (fun r12 u12 m12 => mo_gQ (fun x13_ => mo_gI (fun x14_ => mo_gC (mo_bnd (moX6_close u12 a4_) m12 (fun r15 u15 m15 => mo_ret m15))))))) (fun k6 q6 u6 m6 => mo_ite (mo_gC (mo_bnd (moX6_close u6 a4_) m6 (fun r7 u7 m7 => mo_gC (mo_gI (fun x9_ => mo_pV m7 (fun h10 m10 => mo_gI (fun x11_ => mo_ret m10))))))) mo_no)))))) _ hF
  obtain ⟨mc2, ms2, hmc2, hms2⟩ := up_of (moX1_inRange h ((p1).toInt64) (0 : Int64) ((x1_).toInt64) _ e2)
  replace hc := cst_call hc hmc2 hms2
  refine h_calli (va_runS (As := [.long ((p1).toInt64), .long (0 : Int64), .long ((x1_).toInt64)]) (rest := []) ⟨hx, hb, hml, hown, hts⟩ (mgX1_inRange l D A h ((p1).toInt64) (0 : Int64) ((x1_).toInt64) _ e2 mc2 ms2 hmc2 hms2) (va_cwS 3 hts (lw_S q1420 q1421 q101 q1422) rfl rfl rfl (by decide +kernel) ⟨Nat.le_of_ble_eq_true rfl, Nat.le_of_ble_eq_true rfl⟩) (h_preS hGr hr hS _) rfl rfl hl.1 rfl (lv_room (Nat.le_of_ble_eq_true rfl)) dX1_load_8 ⟨(bud hc mm2 hmc hms).1, (bud hc mm2 hmc hms).2⟩) hS (fun rr uu H locs hw hr hS => ?_)
  obtain rfl : u2 = uu := (congrArg Prod.snd hw).symm
  obtain rfl : r2 = rr := (congrArg Prod.fst hw).symm
  rcases bnx_s hF with ⟨r3, u3, e3, hF⟩ | ⟨q3, u3, e3, hF⟩
  rotate_left
  · obtain ⟨mc3, ms3, hmc3, hms3⟩ := up_of (moX1_requireArgument u2 r2 _ e3)
    have hcx := cst_call hc hmc3 hms3
    have bx3 := bud_r hcx hF hmc hms
    refine h_xthrv rfl (vx_runS (As := [.int r2]) (rest := []) ⟨hx, hb, hml, hown, hts⟩ (mgX1_requireArgument l hl0 D A u2 r2 _ e3 mc3 ms3 hmc3 hms3) (va_cwS 1 hts (lw_S q1423 q1424 q101 q1425) rfl rfl rfl (by decide +kernel) ⟨Nat.le_of_ble_eq_true rfl, Nat.le_of_ble_eq_true rfl⟩) (h_preS hGr hr hS _) rfl rfl hl.1 rfl (lv_room (Nat.le_of_ble_eq_true rfl)) dX1_load_11 ⟨bx3.1, bx3.2⟩) hS (fun E9 q9 u9 H locs ce9 e1 e2 e3 hr hS h1 h2 h3 => ?_)
    exact h_xpassH hGr (by rw [htb]; decide) hlocks hF bx3 e1 e2 e3 hr hS h1 h2 h3
  have mm3 : hle u3 out.2 := (show Mo u3 _ from mo_nW hle_rf (fun a4_ h4 m4 => mo_bnd (moX6_init h4 a4_ a0 p1) m4 (fun r5 u5 m5 => mo_gC (mo_bnh (moX6_read D.2 n u5 a4_) m5 (fun r6 u6 m6 => mo_gC (mo_bnd (moX1_become u6 a0 r6) m6 (fun r12 u12 m12 => mo_gQ (fun x13_ => mo_gI (fun x14_ => mo_gC (mo_bnd (moX6_close u12 a4_) m12 (fun r15 u15 m15 => mo_ret m15))))))) (fun k6 q6 u6 m6 => mo_ite (mo_gC (mo_bnd (moX6_close u6 a4_) m6 (fun r7 u7 m7 => mo_gC (mo_gI (fun x9_ => mo_pV m7 (fun h10 m10 => mo_gI (fun x11_ => mo_ret m10))))))) mo_no))))) _ hF
  obtain ⟨mc3, ms3, hmc3, hms3⟩ := up_of (moX1_requireArgument u2 r2 _ e3)
  replace hc := cst_call hc hmc3 hms3
  refine h_xretv rfl (vx_runS (As := [.int r2]) (rest := []) ⟨hx, hb, hml, hown, hts⟩ (mgX1_requireArgument l hl0 D A u2 r2 _ e3 mc3 ms3 hmc3 hms3) (va_cwS 1 hts (lw_S q1423 q1424 q101 q1425) rfl rfl rfl (by decide +kernel) ⟨Nat.le_of_ble_eq_true rfl, Nat.le_of_ble_eq_true rfl⟩) (h_preS hGr hr hS _) rfl rfl hl.1 rfl (lv_room (Nat.le_of_ble_eq_true rfl)) dX1_load_11 ⟨(bud hc mm3 hmc hms).1, (bud hc mm3 hmc hms).2⟩) hS (fun H locs hr hS => ?_)
  obtain ⟨a4_, h4, ea4, eh4, hF⟩ := nW_s hF
  have mm4 : hle h4 out.2 := (show Mo h4 _ from mo_bnd (moX6_init h4 a4_ a0 p1) hle_rf (fun r5 u5 m5 => mo_gC (mo_bnh (moX6_read D.2 n u5 a4_) m5 (fun r6 u6 m6 => mo_gC (mo_bnd (moX1_become u6 a0 r6) m6 (fun r12 u12 m12 => mo_gQ (fun x13_ => mo_gI (fun x14_ => mo_gC (mo_bnd (moX6_close u12 a4_) m12 (fun r15 u15 m15 => mo_ret m15))))))) (fun k6 q6 u6 m6 => mo_ite (mo_gC (mo_bnd (moX6_close u6 a4_) m6 (fun r7 u7 m7 => mo_gC (mo_gI (fun x9_ => mo_pV m7 (fun h10 m10 => mo_gI (fun x11_ => mo_ret m10))))))) mo_no)))) _ hF
  replace hc := cst_new hc eh4
  refine h_new (C := RX6) (T := TX6) (N := 5) hx hb hts in_X6 tyX6 tyX6_ok hown (hts _ q1431) (hts _ q1432) (hts _ q134) hGr hr hS (ci := 5) (by decide) rfl (fs := [.int 0, .null, .int 0, .int 0, .null]) (fun j hj => by match j, hj with | 0, _ => rfl | 1, _ => rfl | 2, _ => rfl | 3, _ => rfl | 4, _ => rfl | j + 5, hj => omega) (bud hc mm4 hmc hms).1 (bud hc mm4 hmc hms).2 dX1_load_14 (fun H hr hS => ?_)
  rw [← eh4] at hr
  rw [← ea4]
  refine lv_dup hx hb dX1_load_17 rfl ?_
  refine lv_aload_n hx hb dX1_load_18 rfl (lv_at hl 0 rfl) ?_
  refine lv_iload_n hx hb dX1_load_19 rfl (lv_at hl 1 rfl) ?_
  obtain ⟨r5, u5, e5, hF⟩ := bnd_s hF
  have mm5 : hle u5 out.2 := (show Mo u5 _ from mo_gC (mo_bnh (moX6_read D.2 n u5 a4_) hle_rf (fun r6 u6 m6 => mo_gC (mo_bnd (moX1_become u6 a0 r6) m6 (fun r12 u12 m12 => mo_gQ (fun x13_ => mo_gI (fun x14_ => mo_gC (mo_bnd (moX6_close u12 a4_) m12 (fun r15 u15 m15 => mo_ret m15))))))) (fun k6 q6 u6 m6 => mo_ite (mo_gC (mo_bnd (moX6_close u6 a4_) m6 (fun r7 u7 m7 => mo_gC (mo_gI (fun x9_ => mo_pV m7 (fun h10 m10 => mo_gI (fun x11_ => mo_ret m10))))))) mo_no))) _ hF
  obtain ⟨mc5, ms5, hmc5, hms5⟩ := up_of (moX6_init h4 a4_ a0 p1 _ e5)
  replace hc := cst_call hc hmc5 hms5
  refine h_callv (va_runI (As := [.ref a0, .int p1]) (rest := [.ref a4_]) ⟨hx, hb, hml, hown, hts⟩ (mgX6_init l D A h4 a4_ a0 p1 _ e5 mc5 ms5 hmc5 hms5) (cwI 2 hts (lw_meth q1435) rfl rfl rfl (hts _ q134) (hts _ q1433) (hts _ q1434) rfl (by decide +kernel) ⟨Nat.le_of_ble_eq_true rfl, Nat.le_of_ble_eq_true rfl⟩) (h_preS hGr hr hS _) rfl rfl hl.1 rfl (lv_room (Nat.le_of_ble_eq_true rfl)) dX1_load_20 ⟨(bud hc mm5 hmc hms).1, (bud hc mm5 hmc hms).2⟩) hS (fun uu H locs hw hr hS => ?_)
  obtain rfl : u5 = uu := (congrArg Prod.snd hw).symm
  refine lv_astore_n (lv' := [(2, .ref a4_), (0, .ref a0), (1, .int p1)]) hx hb dX1_load_23 rfl hl (by decide) rfl (fun ls hl => ?_)
  refine lv_aload_n hx hb dX1_load_24 rfl (lv_at hl 1 rfl) ?_
  refine lv_aload_n hx hb dX1_load_25 rfl (lv_at hl 0 rfl) ?_
  obtain ⟨fc6, ec6, hF⟩ := gC_s hF
  rcases bnh_s hF with ⟨r6, u6, e6, hF⟩ | ⟨k6, q6, u6, e6, hF⟩
  rotate_left
  · rcases Decidable.em (k6 = 4) with ck6 | ck6
    rotate_left
    · exact nomatch it_f ck6 hF
    · replace hF := it_t ck6 hF
      have mm6 : hle u6 out.2 := (show Mo u6 _ from mo_gC (mo_bnd (moX6_close u6 a4_) hle_rf (fun r7 u7 m7 => mo_gC (mo_gI (fun x9_ => mo_pV m7 (fun h10 m10 => mo_gI (fun x11_ => mo_ret m10))))))) _ hF
      obtain ⟨mc6, ms6, hmc6, hms6⟩ := up_of (moX6_read D.2 n u5 a4_ _ e6)
      replace hc := cst_call hc hmc6 hms6
      refine h_xthrr rfl (vx_runV (As := []) (rest := [.ref a0]) ⟨hx, hb, hml, hown, hts⟩ (mgX6_read l hl0 D A u5 n a4_ _ e6 mc6 ms6 hmc6 hms6) (cwV 0 hts (lw_V q1453 q1454 q1455 q134 q1456) rfl rfl rfl (by decide +kernel) ⟨Nat.le_of_ble_eq_true rfl, Nat.le_of_ble_eq_true rfl⟩) (h_preV hGr hr hS ec6 (by decide) (q := (RX6, TX6, 5)) rfl _) rfl rfl hl.1 rfl (lv_room (Nat.le_of_ble_eq_true rfl)) dX1_load_26 ⟨(bud hc mm6 hmc hms).1, (bud hc mm6 hmc hms).2⟩) hS (fun E9 q9 u9 H locs ce9 e1 e2 e3 hr hS h1 h2 h3 => ?_)
      obtain ⟨e5, e6⟩ := e2 ck6
      have e7 : E9 = "ExactChains$TextError" := e1.trans (by show exN k6 = _; rw [ck6]; rfl)
      rw [e7] at h3
      rw [← show q6 = q9 from e5] at h1 ⊢
      have hr : hR D A u6 H := by rw [← e6]; exact hr
      refine vx_catch hown [] { startPc := 24, endPc := 40, handlerPc := 46, catchType := 105 } [{ startPc := 47, endPc := 51, handlerPc := 54, catchType := 105 }, { startPc := 14, endPc := 44, handlerPc := 64, catchType := 111 }, { startPc := 46, endPc := 64, handlerPc := 64, catchType := 111 }] htb (fun z hz => Or.inl ((by decide : ∀ z ∈ ([] : List ExceptionTableEntry), covers z 26 = false) z hz)) (by decide) (by decide) (hts _ q1346) (va_Nw.use rfl (hGr.nw q2498 rfl)) h1 h2 h3 ?_
      refine lv_astore_n (lv' := [(3, .ref q6), (2, .ref a4_), (0, .ref a0), (1, .int p1)]) hx hb dX1_load_46 rfl hl (by decide) rfl (fun ls hl => ?_)
      refine lv_aload_n hx hb dX1_load_47 rfl (lv_at hl 1 rfl) ?_
      obtain ⟨fc7, ec7, hF⟩ := gC_s hF
      obtain ⟨r7, u7, e7, hF⟩ := bnd_s hF
      have mm7 : hle u7 out.2 := (show Mo u7 _ from mo_gC (mo_gI (fun x9_ => mo_pV hle_rf (fun h10 m10 => mo_gI (fun x11_ => mo_ret m10))))) _ hF
      obtain ⟨mc7, ms7, hmc7, hms7⟩ := up_of (moX6_close u6 a4_ _ e7)
      replace hc := cst_call hc hmc7 hms7
      refine h_callv (va_runV (As := []) (rest := []) ⟨hx, hb, hml, hown, hts⟩ (mgX6_close l D A u6 a4_ _ e7 mc7 ms7 hmc7 hms7) (cwV 0 hts (lw_V q1632 q1633 q1634 q134 q1635) rfl rfl rfl (by decide +kernel) ⟨Nat.le_of_ble_eq_true rfl, Nat.le_of_ble_eq_true rfl⟩) (h_preV hGr hr hS ec7 (by decide) (q := (RX6, TX6, 5)) rfl _) rfl rfl hl.1 rfl (lv_room (Nat.le_of_ble_eq_true rfl)) dX1_load_48 ⟨(bud hc mm7 hmc hms).1, (bud hc mm7 hmc hms).2⟩) hS (fun uu H locs hw hr hS => ?_)
      obtain rfl : u7 = uu := (congrArg Prod.snd hw).symm
      refine lv_goto (tgt := 62) hx hb dX1_load_51 (by decide) ?_
      refine lv_aload_n hx hb dX1_load_62 rfl (lv_at hl 0 rfl) ?_
      obtain ⟨fs8, e8, hF⟩ := gC_s hF
      obtain ⟨ce8, h1, h2, h3⟩ := h_tex hGr hr e8
      refine h_athw hx hb dX1_load_63 ?_
      refine vx_catch hown [{ startPc := 24, endPc := 40, handlerPc := 46, catchType := 105 }, { startPc := 47, endPc := 51, handlerPc := 54, catchType := 105 }, { startPc := 14, endPc := 44, handlerPc := 64, catchType := 111 }] { startPc := 46, endPc := 64, handlerPc := 64, catchType := 111 } [] htb (fun z hz => Or.inl ((by decide : ∀ z ∈ ([{ startPc := 24, endPc := 40, handlerPc := 46, catchType := 105 }, { startPc := 47, endPc := 51, handlerPc := 54, catchType := 105 }, { startPc := 14, endPc := 44, handlerPc := 64, catchType := 111 }] : List ExceptionTableEntry), covers z 63 = false) z hz)) (by decide) (by decide) (hts _ q1419) (va_Nw.use rfl (hGr.nw q1491 rfl)) h1 h2 h3 ?_
      refine lv_astore_n (lv' := [(2, .ref q6), (3, .ref q6), (0, .ref a0), (1, .int p1)]) hx hb dX1_load_64 rfl hl (by decide) rfl (fun ls hl => ?_)
      refine lv_aload_n hx hb dX1_load_65 rfl (lv_at hl 2 rfl) ?_
      refine lv_aload_n hx hb dX1_load_66 rfl (lv_at hl 0 rfl) ?_
      obtain ⟨fs9, x9_, e9, f9, hF⟩ := gI_s hF
      refine h_getN (C := RX7) (T := TX7) (N := 8) hx hb hts in_X7 hown hGr hr e9 (by decide) rfl 7 (by decide) (va_Nw.use rfl (hGr.nw q1510 rfl)) (fun _ h9 => h9) f9 dX1_load_67 ?_
      obtain ⟨fs10, e10, k10, lo10, hF⟩ := pV_s hF
      obtain ⟨h10, eh10⟩ : ∃ z, z = hPut u7 a0 (.inr (1, fs10.set 5 (.int x9_))) := ⟨_, rfl⟩
      rw [← eh10] at hF
      refine h_put (C := RX1) (T := TX1) (N := 7) hx hb hts in_X1 tyX1 tyX1_ok nmX1 hown hGr hr hS e10 (by decide) rfl 5 (by decide) (hts _ q641) (fun _ h9 => h9) rfl (tyX1_ok 5 (by decide)) rfl rfl k10 lo10 dX1_load_70 (fun H locs hr hS => ?_)
      rw [← eh10] at hr
      replace hc := cst_put hc eh10
      refine lv_aload_n hx hb dX1_load_73 rfl (lv_at hl 0 rfl) ?_
      obtain ⟨fs11, x11_, e11, f11, hF⟩ := gI_s hF
      refine h_getN (C := RX7) (T := TX7) (N := 8) hx hb hts in_X7 hown hGr hr e11 (by decide) rfl 6 (by decide) (va_Nw.use rfl (hGr.nw q1508 rfl)) (fun _ h9 => h9) f11 dX1_load_74 ?_
      have bz := bud_r hc hF hmc hms
      refine vx_ret ?_
      refine W.widen (k := mc) (n := ms) bz.1 bz.2 ?_
      exact W.iret (v := x11_) hx hb hret (fun t ht hWm => ⟨⟨x11_, h10, rfl, Option.some.inj hF, h_end hGr hr hS ht hWm⟩, hS.F ht⟩) hS.2.2 dX1_load_77
  have mm6 : hle u6 out.2 := (show Mo u6 _ from mo_gC (mo_bnd (moX1_become u6 a0 r6) hle_rf (fun r12 u12 m12 => mo_gQ (fun x13_ => mo_gI (fun x14_ => mo_gC (mo_bnd (moX6_close u12 a4_) m12 (fun r15 u15 m15 => mo_ret m15))))))) _ hF
  obtain ⟨mc6, ms6, hmc6, hms6⟩ := up_of (moX6_read D.2 n u5 a4_ _ e6)
  replace hc := cst_call hc hmc6 hms6
  refine h_xretr rfl (vx_runV (As := []) (rest := [.ref a0]) ⟨hx, hb, hml, hown, hts⟩ (mgX6_read l hl0 D A u5 n a4_ _ e6 mc6 ms6 hmc6 hms6) (cwV 0 hts (lw_V q1453 q1454 q1455 q134 q1456) rfl rfl rfl (by decide +kernel) ⟨Nat.le_of_ble_eq_true rfl, Nat.le_of_ble_eq_true rfl⟩) (h_preV hGr hr hS ec6 (by decide) (q := (RX6, TX6, 5)) rfl _) rfl rfl hl.1 rfl (lv_room (Nat.le_of_ble_eq_true rfl)) dX1_load_26 ⟨(bud hc mm6 hmc hms).1, (bud hc mm6 hmc hms).2⟩) hS (fun H locs hr hS => ?_)
  obtain ⟨fc12, ec12, hF⟩ := gC_s hF
  obtain ⟨r12, u12, e12, hF⟩ := bnd_s hF
  have mm12 : hle u12 out.2 := (show Mo u12 _ from mo_gQ (fun x13_ => mo_gI (fun x14_ => mo_gC (mo_bnd (moX6_close u12 a4_) hle_rf (fun r15 u15 m15 => mo_ret m15))))) _ hF
  obtain ⟨mc12, ms12, hmc12, hms12⟩ := up_of (moX1_become u6 a0 r6 _ e12)
  replace hc := cst_call hc hmc12 hms12
  refine h_callv (va_runV (As := [.ref r6]) (rest := []) ⟨hx, hb, hml, hown, hts⟩ (mgX1_become l D A u6 a0 r6 _ e12 mc12 ms12 hmc12 hms12) (cwV 1 hts (lw_V q770 q772 qs5 q101 q773) rfl rfl rfl (by decide +kernel) ⟨Nat.le_of_ble_eq_true rfl, Nat.le_of_ble_eq_true rfl⟩) (h_preV hGr hr hS ec12 (by decide) (q := (RX1, TX1, 7)) rfl _) rfl rfl hl.1 rfl (lv_room (Nat.le_of_ble_eq_true rfl)) dX1_load_29 ⟨(bud hc mm12 hmc hms).1, (bud hc mm12 hmc hms).2⟩) hS (fun uu H locs hw hr hS => ?_)
  obtain rfl : u12 = uu := (congrArg Prod.snd hw).symm
  refine lv_aload_n hx hb dX1_load_32 rfl (lv_at hl 1 rfl) ?_
  obtain ⟨fs13, x13_, e13, f13, hF⟩ := gQ_s hF
  refine h_get (C := RX1) (T := TX1) (N := 7) hx hb hts in_X1 hown hGr hr e13 (by decide) rfl 0 (by decide) (hts _ q633) (fun _ h9 => h9) f13 dX1_load_33 ?_
  obtain ⟨fs14, x14_, e14, f14, hF⟩ := gI_s hF
  refine h_getN (C := RX2) (T := TX2) (N := 11) hx hb hts in_X2 hown hGr hr e14 (by decide) rfl 1 (by decide) (va_Nw.use rfl (hGr.nw q567 rfl)) (fun _ h9 => h9) f14 dX1_load_36 ?_
  refine lv_istore_n (lv' := [(3, .int x14_), (2, .ref a4_), (0, .ref a0), (1, .int p1)]) hx hb dX1_load_39 rfl hl (by decide) rfl (fun ls hl => ?_)
  refine lv_aload_n hx hb dX1_load_40 rfl (lv_at hl 1 rfl) ?_
  obtain ⟨fc15, ec15, hF⟩ := gC_s hF
  obtain ⟨r15, u15, e15, hF⟩ := bnd_s hF
  have mm15 : hle u15 out.2 := (show Mo u15 _ from mo_ret hle_rf) _ hF
  obtain ⟨mc15, ms15, hmc15, hms15⟩ := up_of (moX6_close u12 a4_ _ e15)
  replace hc := cst_call hc hmc15 hms15
  refine h_callv (va_runV (As := []) (rest := []) ⟨hx, hb, hml, hown, hts⟩ (mgX6_close l D A u12 a4_ _ e15 mc15 ms15 hmc15 hms15) (cwV 0 hts (lw_V q1632 q1633 q1634 q134 q1635) rfl rfl rfl (by decide +kernel) ⟨Nat.le_of_ble_eq_true rfl, Nat.le_of_ble_eq_true rfl⟩) (h_preV hGr hr hS ec15 (by decide) (q := (RX6, TX6, 5)) rfl _) rfl rfl hl.1 rfl (lv_room (Nat.le_of_ble_eq_true rfl)) dX1_load_41 ⟨(bud hc mm15 hmc hms).1, (bud hc mm15 hmc hms).2⟩) hS (fun uu H locs hw hr hS => ?_)
  obtain rfl : u15 = uu := (congrArg Prod.snd hw).symm
  refine lv_iload_n hx hb dX1_load_44 rfl (lv_at hl 0 rfl) ?_
  have bz := bud_r hc hF hmc hms
  refine vx_ret ?_
  refine W.widen (k := mc) (n := ms) bz.1 bz.2 ?_
  exact W.iret (v := x14_) hx hb hret (fun t ht hWm => ⟨⟨x14_, u15, rfl, Option.some.inj hF, h_end hGr hr hS ht hWm⟩, hS.F ht⟩) hS.2.2 dX1_load_45
