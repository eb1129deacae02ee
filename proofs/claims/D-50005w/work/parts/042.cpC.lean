/-! the component and what it calls of the library, walked by program (tool/dc.py): G.. the pure function, mo.. its growth, mg.. the contract -/
def GX2_init_3 (h : Hp) (a0 : Nat) (a1 : Nat) (p2 : Int32) : Option (Int32 × Hp) := pV h a0 2 4 (.int 8) (fun h1 => pV h1 a0 2 5 (.int 8) (fun h2 => nW h2 10 [.int 0, .null, .int 0] 3 (fun a3_ h3 => bnd (GJ2_init h3 a3_ (8 : Int32)) (fun r4 u4 => pV u4 a0 2 7 (.ref a3_) (fun h5 => nW h5 10 [.int 0, .null, .int 0] 3 (fun a6_ h6 => bnd (GJ2_init h6 a6_ (4 : Int32)) (fun r7 u7 => pV u7 a0 2 8 (.ref a6_) (fun h8 => pV h8 a0 2 0 (.ref a1) (fun h9 => pV h9 a0 2 1 (.int p2) (fun h10 => nM h10 p2 p2 (fun a11_ h11 => pV h11 a0 2 2 (.ref a11_) (fun h12 => nW h12 4 [.null] 1 (fun a13_ h13 => nA h13 0 p2 (fun a14_ h14 => bnd (GX4_init h14 a13_ a14_) (fun r15 u15 => pV u15 a0 2 3 (.ref a13_) (fun h16 => some (0, h16)))))))))))))))))
theorem moX2_init_3 (h : Hp) (a0 : Nat) (a1 : Nat) (p2 : Int32) : Mo h (GX2_init_3 h a0 a1 p2) := by
  unfold GX2_init_3
  exact mo_pV hle_rf (fun h1 m1 => mo_pV m1 (fun h2 m2 => mo_nW m2 (fun a3_ h3 m3 => mo_bnd (moJ2_init h3 a3_ (8 : Int32)) m3 (fun r4 u4 m4 => mo_pV m4 (fun h5 m5 => mo_nW m5 (fun a6_ h6 m6 => mo_bnd (moJ2_init h6 a6_ (4 : Int32)) m6 (fun r7 u7 m7 => mo_pV m7 (fun h8 m8 => mo_pV m8 (fun h9 m9 => mo_pV m9 (fun h10 m10 => mo_nM m10 (fun a11_ h11 m11 => mo_pV m11 (fun h12 m12 => mo_nW m12 (fun a13_ h13 m13 => mo_nA m13 (fun a14_ h14 m14 => mo_bnd (moX4_init h14 a13_ a14_) m14 (fun r15 u15 m15 => mo_pV m15 (fun h16 m16 => mo_ret m16))))))))))))))))
set_option maxHeartbeats 4000000 in
set_option maxRecDepth 100000 in
theorem mgX2_init_3 (l : Launch) (D : HD) (A : Nat → Prop) (h : Hp) (a0 : Nat) (a1 : Nat) (p2 : Int32) (out : Int32 × Hp) (hF : GX2_init_3 h a0 a1 p2 = some out) (mc ms : Nat) (hmc : hCc out.2 = hCc h + mc) (hms : hSl out.2 = hSl h + ms) : Met l yX2_init_3 (ws_ yX2_init_3 cX2_init_3 3 none) ({ frames := 4, cells := mc, slots := ms, locals := 81 }) (va_Pc [.ref a0, .ref a1, .int p2] (hW D A h)) (va_Qv (fun u => (0, u) = out) (hW D A) A) mc ms A := by
  refine Met.ofW (cc := cX2_init_3) (maxL := 3) (ret := none) (by decide +kernel) rfl ?_
  intro p e s m args below meth c s₁ B hml hv
  obtain ⟨rfl, hr, hGr⟩ := hv
  have hx := B.exec
  have hb := B.bytes
  have hret := B.returns
  have hts := atoms_spec (ws := (ws_ yX2_init_3 cX2_init_3 3 none)) B.pre
  have hts : ∀ w ∈ lw_all, w.before _ s = true := fun w h => hts w (List.mem_cons_of_mem _ h)
  have hown : s.vm.findClass RX2 = some m.cls := findClass_of_methodNamed B.named
  have hlocks := B.notSynchronized
  have hin : meth.name = "<init>" := (name_of_methodNamed B.named B.method).1
  have hS : va_S A s.heap s.heap [] := va_S.rf
  have hc : cst h 0 0 h := cst_0
  have hl := lv_entry ([.ref a0, .ref a1, .int p2]) (n := 3) (Nat.le_of_ble_eq_true rfl)
  rw [lg_entry_eq]
  generalize (lg_sl ([.ref a0, .ref a1, .int p2]) ++ List.replicate (3 - (lg_sl ([.ref a0, .ref a1, .int p2])).length) Slot.unset).toArray = ls at hl ⊢
  have hl : lv_has ls 3 [(0, .ref a0), (1, .ref a1), (2, .int p2)] := hl
  unfold GX2_init_3 at hF
  refine lv_aload_n hx hb dX2_init_3_0 rfl (lv_at hl 0 rfl) ?_
  refine W.objInit hx hb hown (hts _ q181) (hts _ q149) (hts _ q150) rfl (by rw [hml]; exact hl.1) rfl dX2_init_3_1 (Nat.le_of_ble_eq_true rfl) (Nat.le_of_ble_eq_true rfl) ?_
  refine W.eq (g2 := F0 m 4 ls []) rfl ?_
  refine lv_aload_n hx hb dX2_init_3_4 rfl (lv_at hl 0 rfl) ?_
  refine lv_bipush (v := 8) hx hb dX2_init_3_5 (by decide) ?_
  obtain ⟨fs1, e1, k1, lo1, hF⟩ := pV_s hF
  obtain ⟨h1, eh1⟩ : ∃ z, z = hPut h a0 (.inr (2, fs1.set 4 (.int 8))) := ⟨_, rfl⟩
  rw [← eh1] at hF
  refine h_put (C := RX2) (T := TX2) (N := 11) hx hb hts in_X2 tyX2 tyX2_ok nmX2 hown hGr hr hS e1 (by decide) rfl 4 (by decide) (hts _ q573) (fun _ h9 => h9) rfl (tyX2_ok 4 (by decide)) rfl rfl k1 lo1 dX2_init_3_7 (fun H locs hr hS => ?_)
  rw [← eh1] at hr
  replace hc := cst_put hc eh1
  refine lv_aload_n hx hb dX2_init_3_10 rfl (lv_at hl 0 rfl) ?_
  refine lv_bipush (v := 8) hx hb dX2_init_3_11 (by decide) ?_
  obtain ⟨fs2, e2, k2, lo2, hF⟩ := pV_s hF
  obtain ⟨h2, eh2⟩ : ∃ z, z = hPut h1 a0 (.inr (2, fs2.set 5 (.int 8))) := ⟨_, rfl⟩
  rw [← eh2] at hF
  refine h_put (C := RX2) (T := TX2) (N := 11) hx hb hts in_X2 tyX2 tyX2_ok nmX2 hown hGr hr hS e2 (by decide) rfl 5 (by decide) (hts _ q576) (fun _ h9 => h9) rfl (tyX2_ok 5 (by decide)) rfl rfl k2 lo2 dX2_init_3_13 (fun H locs hr hS => ?_)
  rw [← eh2] at hr
  replace hc := cst_put hc eh2
  refine lv_aload_n hx hb dX2_init_3_16 rfl (lv_at hl 0 rfl) ?_
  obtain ⟨a3_, h3, ea3, eh3, hF⟩ := nW_s hF
  have mm3 : hle h3 out.2 := (show Mo h3 _ from mo_bnd (moJ2_init h3 a3_ (8 : Int32)) hle_rf (fun r4 u4 m4 => mo_pV m4 (fun h5 m5 => mo_nW m5 (fun a6_ h6 m6 => mo_bnd (moJ2_init h6 a6_ (4 : Int32)) m6 (fun r7 u7 m7 => mo_pV m7 (fun h8 m8 => mo_pV m8 (fun h9 m9 => mo_pV m9 (fun h10 m10 => mo_nM m10 (fun a11_ h11 m11 => mo_pV m11 (fun h12 m12 => mo_nW m12 (fun a13_ h13 m13 => mo_nA m13 (fun a14_ h14 m14 => mo_bnd (moX4_init h14 a13_ a14_) m14 (fun r15 u15 m15 => mo_pV m15 (fun h16 m16 => mo_ret m16)))))))))))))) _ hF
  replace hc := cst_new hc eh3
  refine h_new (C := RJ2) (T := TJ2) (N := 3) hx hb hts in_J2 tyJ2 tyJ2_ok hown (hts _ q182) (hts _ q183) (hts _ q106) hGr hr hS (ci := 10) (by decide) rfl (fs := [.int 0, .null, .int 0]) (fun j hj => by match j, hj with | 0, _ => rfl | 1, _ => rfl | 2, _ => rfl | j + 3, hj => omega) (bud hc mm3 hmc hms).1 (bud hc mm3 hmc hms).2 dX2_init_3_17 (fun H hr hS => ?_)
  rw [← eh3] at hr
  rw [← ea3]
  refine lv_dup hx hb dX2_init_3_20 rfl ?_
  refine lv_bipush (v := 8) hx hb dX2_init_3_21 (by decide) ?_
  obtain ⟨r4, u4, e4, hF⟩ := bnd_s hF
  have mm4 : hle u4 out.2 := (show Mo u4 _ from mo_pV hle_rf (fun h5 m5 => mo_nW m5 (fun a6_ h6 m6 => mo_bnd (moJ2_init h6 a6_ (4 : Int32)) m6 (fun r7 u7 m7 => mo_pV m7 (fun h8 m8 => mo_pV m8 (fun h9 m9 => mo_pV m9 (fun h10 m10 => mo_nM m10 (fun a11_ h11 m11 => mo_pV m11 (fun h12 m12 => mo_nW m12 (fun a13_ h13 m13 => mo_nA m13 (fun a14_ h14 m14 => mo_bnd (moX4_init h14 a13_ a14_) m14 (fun r15 u15 m15 => mo_pV m15 (fun h16 m16 => mo_ret m16))))))))))))) _ hF
  obtain ⟨mc4, ms4, hmc4, hms4⟩ := up_of (moJ2_init h3 a3_ (8 : Int32) _ e4)
  replace hc := cst_call hc hmc4 hms4
  refine h_callv (va_runI (As := [.int 8]) (rest := [.ref a3_, .ref a0]) ⟨hx, hb, hml, hown, hts⟩ (mgJ2_init l D A h3 a3_ (8 : Int32) _ e4 mc4 ms4 hmc4 hms4) (cwI 1 hts (lw_meth q186) rfl rfl rfl (hts _ q106) (hts _ q184) (hts _ q185) rfl (by decide +kernel) ⟨Nat.le_of_ble_eq_true rfl, Nat.le_of_ble_eq_true rfl⟩) (h_preS hGr hr hS _) rfl rfl hl.1 rfl (lv_room (Nat.le_of_ble_eq_true rfl)) dX2_init_3_23 ⟨(bud hc mm4 hmc hms).1, (bud hc mm4 hmc hms).2⟩) hS (fun uu H locs hw hr hS => ?_)
  obtain rfl : u4 = uu := (congrArg Prod.snd hw).symm
  obtain ⟨fs5, e5, k5, lo5, hF⟩ := pV_s hF
  obtain ⟨h5, eh5⟩ : ∃ z, z = hPut u4 a0 (.inr (2, fs5.set 7 (.ref a3_))) := ⟨_, rfl⟩
  rw [← eh5] at hF
  refine h_putF (C := RX2) (T := TX2) (N := 11) hx hb hts in_X2 tyX2 tyX2_ok nmX2 hown hGr hr hS e5 (by decide) rfl 7 (by decide) (hts _ q582) (fun _ h9 => h9) rfl hin rfl (tyX2_ok 7 (by decide)) rfl rfl k5 lo5 dX2_init_3_26 (fun H locs hr hS => ?_)
  rw [← eh5] at hr
  replace hc := cst_put hc eh5
  refine lv_aload_n hx hb dX2_init_3_29 rfl (lv_at hl 0 rfl) ?_
  obtain ⟨a6_, h6, ea6, eh6, hF⟩ := nW_s hF
  have mm6 : hle h6 out.2 := (show Mo h6 _ from mo_bnd (moJ2_init h6 a6_ (4 : Int32)) hle_rf (fun r7 u7 m7 => mo_pV m7 (fun h8 m8 => mo_pV m8 (fun h9 m9 => mo_pV m9 (fun h10 m10 => mo_nM m10 (fun a11_ h11 m11 => mo_pV m11 (fun h12 m12 => mo_nW m12 (fun a13_ h13 m13 => mo_nA m13 (fun a14_ h14 m14 => mo_bnd (moX4_init h14 a13_ a14_) m14 (fun r15 u15 m15 => mo_pV m15 (fun h16 m16 => mo_ret m16))))))))))) _ hF
  replace hc := cst_new hc eh6
  refine h_new (C := RJ2) (T := TJ2) (N := 3) hx hb hts in_J2 tyJ2 tyJ2_ok hown (hts _ q182) (hts _ q183) (hts _ q106) hGr hr hS (ci := 10) (by decide) rfl (fs := [.int 0, .null, .int 0]) (fun j hj => by match j, hj with | 0, _ => rfl | 1, _ => rfl | 2, _ => rfl | j + 3, hj => omega) (bud hc mm6 hmc hms).1 (bud hc mm6 hmc hms).2 dX2_init_3_30 (fun H hr hS => ?_)
  rw [← eh6] at hr
  rw [← ea6]
  refine lv_dup hx hb dX2_init_3_33 rfl ?_
  refine lv_iconst (v := 4) hx hb dX2_init_3_34 (by decide) ?_
  obtain ⟨r7, u7, e7, hF⟩ := bnd_s hF
  have mm7 : hle u7 out.2 := (show Mo u7 _ from mo_pV hle_rf (fun h8 m8 => mo_pV m8 (fun h9 m9 => mo_pV m9 (fun h10 m10 => mo_nM m10 (fun a11_ h11 m11 => mo_pV m11 (fun h12 m12 => mo_nW m12 (fun a13_ h13 m13 => mo_nA m13 (fun a14_ h14 m14 => mo_bnd (moX4_init h14 a13_ a14_) m14 (fun r15 u15 m15 => mo_pV m15 (fun h16 m16 => mo_ret m16)))))))))) _ hF
  obtain ⟨mc7, ms7, hmc7, hms7⟩ := up_of (moJ2_init h6 a6_ (4 : Int32) _ e7)
  replace hc := cst_call hc hmc7 hms7
  refine h_callv (va_runI (As := [.int 4]) (rest := [.ref a6_, .ref a0]) ⟨hx, hb, hml, hown, hts⟩ (mgJ2_init l D A h6 a6_ (4 : Int32) _ e7 mc7 ms7 hmc7 hms7) (cwI 1 hts (lw_meth q186) rfl rfl rfl (hts _ q106) (hts _ q184) (hts _ q185) rfl (by decide +kernel) ⟨Nat.le_of_ble_eq_true rfl, Nat.le_of_ble_eq_true rfl⟩) (h_preS hGr hr hS _) rfl rfl hl.1 rfl (lv_room (Nat.le_of_ble_eq_true rfl)) dX2_init_3_35 ⟨(bud hc mm7 hmc hms).1, (bud hc mm7 hmc hms).2⟩) hS (fun uu H locs hw hr hS => ?_)
  obtain rfl : u7 = uu := (congrArg Prod.snd hw).symm
  obtain ⟨fs8, e8, k8, lo8, hF⟩ := pV_s hF
  obtain ⟨h8, eh8⟩ : ∃ z, z = hPut u7 a0 (.inr (2, fs8.set 8 (.ref a6_))) := ⟨_, rfl⟩
  rw [← eh8] at hF
  refine h_putF (C := RX2) (T := TX2) (N := 11) hx hb hts in_X2 tyX2 tyX2_ok nmX2 hown hGr hr hS e8 (by decide) rfl 8 (by decide) (hts _ q584) (fun _ h9 => h9) rfl hin rfl (tyX2_ok 8 (by decide)) rfl rfl k8 lo8 dX2_init_3_38 (fun H locs hr hS => ?_)
  rw [← eh8] at hr
  replace hc := cst_put hc eh8
  refine lv_aload_n hx hb dX2_init_3_41 rfl (lv_at hl 0 rfl) ?_
  refine lv_aload_n hx hb dX2_init_3_42 rfl (lv_at hl 1 rfl) ?_
  obtain ⟨fs9, e9, k9, lo9, hF⟩ := pV_s hF
  obtain ⟨h9, eh9⟩ : ∃ z, z = hPut h8 a0 (.inr (2, fs9.set 0 (.ref a1))) := ⟨_, rfl⟩
  rw [← eh9] at hF
  refine h_putF (C := RX2) (T := TX2) (N := 11) hx hb hts in_X2 tyX2 tyX2_ok nmX2 hown hGr hr hS e9 (by decide) rfl 0 (by decide) (hts _ q562) (fun _ h9 => h9) rfl hin rfl (tyX2_ok 0 (by decide)) rfl rfl k9 lo9 dX2_init_3_43 (fun H locs hr hS => ?_)
  rw [← eh9] at hr
  replace hc := cst_put hc eh9
  refine lv_aload_n hx hb dX2_init_3_46 rfl (lv_at hl 0 rfl) ?_
  refine lv_iload_n hx hb dX2_init_3_47 rfl (lv_at hl 2 rfl) ?_
  obtain ⟨fs10, e10, k10, lo10, hF⟩ := pV_s hF
  obtain ⟨h10, eh10⟩ : ∃ z, z = hPut h9 a0 (.inr (2, fs10.set 1 (.int p2))) := ⟨_, rfl⟩
  rw [← eh10] at hF
  refine h_putF (C := RX2) (T := TX2) (N := 11) hx hb hts in_X2 tyX2 tyX2_ok nmX2 hown hGr hr hS e10 (by decide) rfl 1 (by decide) (hts _ q565) (fun _ h9 => h9) rfl hin rfl (tyX2_ok 1 (by decide)) rfl rfl k10 lo10 dX2_init_3_48 (fun H locs hr hS => ?_)
  rw [← eh10] at hr
  replace hc := cst_put hc eh10
  refine lv_aload_n hx hb dX2_init_3_51 rfl (lv_at hl 0 rfl) ?_
  refine lv_iload_n hx hb dX2_init_3_52 rfl (lv_at hl 2 rfl) ?_
  refine lv_iload_n hx hb dX2_init_3_53 rfl (lv_at hl 2 rfl) ?_
  obtain ⟨a11_, h11, ea11, eh11, g11, gk11, hF⟩ := nM_s hF
  have mm11 : hle h11 out.2 := (show Mo h11 _ from mo_pV hle_rf (fun h12 m12 => mo_nW m12 (fun a13_ h13 m13 => mo_nA m13 (fun a14_ h14 m14 => mo_bnd (moX4_init h14 a13_ a14_) m14 (fun r15 u15 m15 => mo_pV m15 (fun h16 m16 => mo_ret m16)))))) _ hF
  replace hc := cst_mul hc eh11
  refine h_multi hx hb hown (hts _ q547) (hts _ q177) hGr hr hS g11 gk11 (bud_m hc mm11 hmc hms).1 (bud_m hc mm11 hmc hms).2 dX2_init_3_54 (fun H hr hS => ?_)
  rw [← eh11] at hr
  rw [← ea11]
  obtain ⟨fs12, e12, k12, lo12, hF⟩ := pV_s hF
  obtain ⟨h12, eh12⟩ : ∃ z, z = hPut h11 a0 (.inr (2, fs12.set 2 (.ref a11_))) := ⟨_, rfl⟩
  rw [← eh12] at hF
  refine h_put (C := RX2) (T := TX2) (N := 11) hx hb hts in_X2 tyX2 tyX2_ok nmX2 hown hGr hr hS e12 (by decide) rfl 2 (by decide) (hts _ q568) (fun _ h9 => h9) rfl (tyX2_ok 2 (by decide)) rfl rfl k12 lo12 dX2_init_3_58 (fun H locs hr hS => ?_)
  rw [← eh12] at hr
  replace hc := cst_put hc eh12
  refine lv_aload_n hx hb dX2_init_3_61 rfl (lv_at hl 0 rfl) ?_
  obtain ⟨a13_, h13, ea13, eh13, hF⟩ := nW_s hF
  have mm13 : hle h13 out.2 := (show Mo h13 _ from mo_nA hle_rf (fun a14_ h14 m14 => mo_bnd (moX4_init h14 a13_ a14_) m14 (fun r15 u15 m15 => mo_pV m15 (fun h16 m16 => mo_ret m16)))) _ hF
  replace hc := cst_new hc eh13
  refine h_new (C := RX4) (T := TX4) (N := 1) hx hb hts in_X4 tyX4 tyX4_ok hown (hts _ q549) (hts _ q550) (hts _ q123) hGr hr hS (ci := 4) (by decide) rfl (fs := [.null]) (fun j hj => by match j, hj with | 0, _ => rfl | j + 1, hj => omega) (bud hc mm13 hmc hms).1 (bud hc mm13 hmc hms).2 dX2_init_3_62 (fun H hr hS => ?_)
  rw [← eh13] at hr
  rw [← ea13]
  refine lv_dup hx hb dX2_init_3_65 rfl ?_
  refine lv_iload_n hx hb dX2_init_3_66 rfl (lv_at hl 2 rfl) ?_
  obtain ⟨a14_, h14, ea14, eh14, g14, hF⟩ := nA_s hF
  have mm14 : hle h14 out.2 := (show Mo h14 _ from mo_bnd (moX4_init h14 a13_ a14_) hle_rf (fun r15 u15 m15 => mo_pV m15 (fun h16 m16 => mo_ret m16))) _ hF
  replace hc := cst_new hc eh14
  refine h_newI hx hb (hts _ q177) hGr hr hS g14 (bud hc mm14 hmc hms).1 (bud hc mm14 hmc hms).2 dX2_init_3_67 (fun H hr hS => ?_)
  rw [← eh14] at hr
  rw [← ea14]
  obtain ⟨r15, u15, e15, hF⟩ := bnd_s hF
  have mm15 : hle u15 out.2 := (show Mo u15 _ from mo_pV hle_rf (fun h16 m16 => mo_ret m16)) _ hF
  obtain ⟨mc15, ms15, hmc15, hms15⟩ := up_of (moX4_init h14 a13_ a14_ _ e15)
  replace hc := cst_call hc hmc15 hms15
  refine h_callv (va_runI (As := [.ref a14_]) (rest := [.ref a13_, .ref a0]) ⟨hx, hb, hml, hown, hts⟩ (mgX4_init l D A h14 a13_ a14_ _ e15 mc15 ms15 hmc15 hms15) (cwI 1 hts (lw_meth q553) rfl rfl rfl (hts _ q123) (hts _ q551) (hts _ q552) rfl (by decide +kernel) ⟨Nat.le_of_ble_eq_true rfl, Nat.le_of_ble_eq_true rfl⟩) (h_preS hGr hr hS _) rfl rfl hl.1 rfl (lv_room (Nat.le_of_ble_eq_true rfl)) dX2_init_3_69 ⟨(bud hc mm15 hmc hms).1, (bud hc mm15 hmc hms).2⟩) hS (fun uu H locs hw hr hS => ?_)
  obtain rfl : u15 = uu := (congrArg Prod.snd hw).symm
  obtain ⟨fs16, e16, k16, lo16, hF⟩ := pV_s hF
  obtain ⟨h16, eh16⟩ : ∃ z, z = hPut u15 a0 (.inr (2, fs16.set 3 (.ref a13_))) := ⟨_, rfl⟩
  rw [← eh16] at hF
  refine h_put (C := RX2) (T := TX2) (N := 11) hx hb hts in_X2 tyX2 tyX2_ok nmX2 hown hGr hr hS e16 (by decide) rfl 3 (by decide) (hts _ q570) (fun _ h9 => h9) rfl (tyX2_ok 3 (by decide)) rfl rfl k16 lo16 dX2_init_3_72 (fun H locs hr hS => ?_)
  rw [← eh16] at hr
  replace hc := cst_put hc eh16
  have bz := bud_r hc hF hmc hms
  refine W.widen (k := mc) (n := ms) bz.1 bz.2 ?_
  exact W.vret hx hb hret (fun t ht hWm => ⟨⟨h16, rfl, Option.some.inj hF, h_end hGr hr hS ht hWm⟩, hS.F ht⟩) hS.2.2 dX2_init_3_75

def GX2_init_2 (n : Nat) (h : Hp) (a0 : Nat) (p1 : Int32) (p2 : Int32) : Option (Int32 × Hp) := nW h 3 [.int 0, .null] 2 (fun a1_ h1 => bnd (GX3_init n h1 a1_ p1) (fun r2 u2 => bnd (GX2_init_3 u2 a0 a1_ p2) (fun r3 u3 => some (0, u3))))
theorem moX2_init_2 (n : Nat) (h : Hp) (a0 : Nat) (p1 : Int32) (p2 : Int32) : Mo h (GX2_init_2 n h a0 p1 p2) := by
  unfold GX2_init_2
  exact mo_nW hle_rf (fun a1_ h1 m1 => mo_bnd (moX3_init n h1 a1_ p1) m1 (fun r2 u2 m2 => mo_bnd (moX2_init_3 u2 a0 a1_ p2) m2 (fun r3 u3 m3 => mo_ret m3)))
set_option maxHeartbeats 4000000 in
set_option maxRecDepth 100000 in
theorem mgX2_init_2 (l : Launch) (D : HD) (A : Nat → Prop) (h : Hp) (n : Nat) (a0 : Nat) (p1 : Int32) (p2 : Int32) (out : Int32 × Hp) (hF : GX2_init_2 n h a0 p1 p2 = some out) (mc ms : Nat) (hmc : hCc out.2 = hCc h + mc) (hms : hSl out.2 = hSl h + ms) : Met l yX2_init_2 (ws_ yX2_init_2 cX2_init_2 3 none) ({ frames := 5, cells := mc, slots := ms, locals := 103 }) (va_Pc [.ref a0, .int p1, .int p2] (hW D A h)) (va_Qv (fun u => (0, u) = out) (hW D A) A) mc ms A := by
  refine Met.ofW (cc := cX2_init_2) (maxL := 3) (ret := none) (by decide +kernel) rfl ?_
  intro p e s m args below meth c s₁ B hml hv
  obtain ⟨rfl, hr, hGr⟩ := hv
  have hx := B.exec
  have hb := B.bytes
  have hret := B.returns
  have hts := atoms_spec (ws := (ws_ yX2_init_2 cX2_init_2 3 none)) B.pre
  have hts : ∀ w ∈ lw_all, w.before _ s = true := fun w h => hts w (List.mem_cons_of_mem _ h)
  have hown : s.vm.findClass RX2 = some m.cls := findClass_of_methodNamed B.named
  have hlocks := B.notSynchronized
  have hin : meth.name = "<init>" := (name_of_methodNamed B.named B.method).1
  have hS : va_S A s.heap s.heap [] := va_S.rf
  have hc : cst h 0 0 h := cst_0
  have hl := lv_entry ([.ref a0, .int p1, .int p2]) (n := 3) (Nat.le_of_ble_eq_true rfl)
  rw [lg_entry_eq]
  generalize (lg_sl ([.ref a0, .int p1, .int p2]) ++ List.replicate (3 - (lg_sl ([.ref a0, .int p1, .int p2])).length) Slot.unset).toArray = ls at hl ⊢
  have hl : lv_has ls 3 [(0, .ref a0), (1, .int p1), (2, .int p2)] := hl
  unfold GX2_init_2 at hF
  refine lv_aload_n hx hb dX2_init_2_0 rfl (lv_at hl 0 rfl) ?_
  obtain ⟨a1_, h1, ea1, eh1, hF⟩ := nW_s hF
  have mm1 : hle h1 out.2 := (show Mo h1 _ from mo_bnd (moX3_init n h1 a1_ p1) hle_rf (fun r2 u2 m2 => mo_bnd (moX2_init_3 u2 a0 a1_ p2) m2 (fun r3 u3 m3 => mo_ret m3))) _ hF
  replace hc := cst_new hc eh1
  refine h_new (C := RX3) (T := TX3) (N := 2) hx hb hts in_X3 tyX3 tyX3_ok hown (hts _ q159) (hts _ q160) (hts _ q103) hGr hr hS (ci := 3) (by decide) rfl (fs := [.int 0, .null]) (fun j hj => by match j, hj with | 0, _ => rfl | 1, _ => rfl | j + 2, hj => omega) (bud hc mm1 hmc hms).1 (bud hc mm1 hmc hms).2 dX2_init_2_1 (fun H hr hS => ?_)
  rw [← eh1] at hr
  rw [← ea1]
  refine lv_dup hx hb dX2_init_2_4 rfl ?_
  refine lv_iload_n hx hb dX2_init_2_5 rfl (lv_at hl 1 rfl) ?_
  obtain ⟨r2, u2, e2, hF⟩ := bnd_s hF
  have mm2 : hle u2 out.2 := (show Mo u2 _ from mo_bnd (moX2_init_3 u2 a0 a1_ p2) hle_rf (fun r3 u3 m3 => mo_ret m3)) _ hF
  obtain ⟨mc2, ms2, hmc2, hms2⟩ := up_of (moX3_init n h1 a1_ p1 _ e2)
  replace hc := cst_call hc hmc2 hms2
  refine h_callv (va_runI (As := [.int p1]) (rest := [.ref a1_, .ref a0]) ⟨hx, hb, hml, hown, hts⟩ (mgX3_init l D A h1 n a1_ p1 _ e2 mc2 ms2 hmc2 hms2) (cwI 1 hts (lw_meth q163) rfl rfl rfl (hts _ q103) (hts _ q161) (hts _ q162) rfl (by decide +kernel) ⟨Nat.le_of_ble_eq_true rfl, Nat.le_of_ble_eq_true rfl⟩) (h_preS hGr hr hS _) rfl rfl hl.1 rfl (lv_room (Nat.le_of_ble_eq_true rfl)) dX2_init_2_6 ⟨(bud hc mm2 hmc hms).1, (bud hc mm2 hmc hms).2⟩) hS (fun uu H locs hw hr hS => ?_)
  obtain rfl : u2 = uu := (congrArg Prod.snd hw).symm
  refine lv_iload_n hx hb dX2_init_2_9 rfl (lv_at hl 2 rfl) ?_
  obtain ⟨r3, u3, e3, hF⟩ := bnd_s hF
  have mm3 : hle u3 out.2 := (show Mo u3 _ from mo_ret hle_rf) _ hF
  obtain ⟨mc3, ms3, hmc3, hms3⟩ := up_of (moX2_init_3 u2 a0 a1_ p2 _ e3)
  replace hc := cst_call hc hmc3 hms3
  refine h_callv (va_runI (As := [.ref a1_, .int p2]) (rest := []) ⟨hx, hb, hml, hown, hts⟩ (mgX2_init_3 l D A u2 a0 a1_ p2 _ e3 mc3 ms3 hmc3 hms3) (cwI 2 hts (lw_meth q180) rfl rfl rfl (hts _ q102) (hts _ q178) (hts _ q179) rfl (by decide +kernel) ⟨Nat.le_of_ble_eq_true rfl, Nat.le_of_ble_eq_true rfl⟩) (h_preS hGr hr hS _) rfl rfl hl.1 rfl (lv_room (Nat.le_of_ble_eq_true rfl)) dX2_init_2_10 ⟨(bud hc mm3 hmc hms).1, (bud hc mm3 hmc hms).2⟩) hS (fun uu H locs hw hr hS => ?_)
  obtain rfl : u3 = uu := (congrArg Prod.snd hw).symm
  have bz := bud_r hc hF hmc hms
  refine W.widen (k := mc) (n := ms) bz.1 bz.2 ?_
  exact W.vret hx hb hret (fun t ht hWm => ⟨⟨u3, rfl, Option.some.inj hF, h_end hGr hr hS ht hWm⟩, hS.F ht⟩) hS.2.2 dX2_init_2_13

def GX2_init (n : Nat) (h : Hp) (a0 : Nat) : Option (Int32 × Hp) := bnd (GX2_init_2 n h a0 (3 : Int32) (1 : Int32)) (fun r1 u1 => some (0, u1))
theorem moX2_init (n : Nat) (h : Hp) (a0 : Nat) : Mo h (GX2_init n h a0) := by
  unfold GX2_init
  exact mo_bnd (moX2_init_2 n h a0 (3 : Int32) (1 : Int32)) hle_rf (fun r1 u1 m1 => mo_ret m1)
set_option maxHeartbeats 4000000 in
set_option maxRecDepth 100000 in
theorem mgX2_init (l : Launch) (D : HD) (A : Nat → Prop) (h : Hp) (n : Nat) (a0 : Nat) (out : Int32 × Hp) (hF : GX2_init n h a0 = some out) (mc ms : Nat) (hmc : hCc out.2 = hCc h + mc) (hms : hSl out.2 = hSl h + ms) : Met l yX2_init (ws_ yX2_init cX2_init 1 none) ({ frames := 6, cells := mc, slots := ms, locals := 125 }) (va_Pc [.ref a0] (hW D A h)) (va_Qv (fun u => (0, u) = out) (hW D A) A) mc ms A := by
  refine Met.ofW (cc := cX2_init) (maxL := 1) (ret := none) (by decide +kernel) rfl ?_
  intro p e s m args below meth c s₁ B hml hv
  obtain ⟨rfl, hr, hGr⟩ := hv
  have hx := B.exec
  have hb := B.bytes
  have hret := B.returns
  have hts := atoms_spec (ws := (ws_ yX2_init cX2_init 1 none)) B.pre
  have hts : ∀ w ∈ lw_all, w.before _ s = true := fun w h => hts w (List.mem_cons_of_mem _ h)
  have hown : s.vm.findClass RX2 = some m.cls := findClass_of_methodNamed B.named
  have hlocks := B.notSynchronized
  have hin : meth.name = "<init>" := (name_of_methodNamed B.named B.method).1
  have hS : va_S A s.heap s.heap [] := va_S.rf
  have hc : cst h 0 0 h := cst_0
  have hl := lv_entry ([.ref a0]) (n := 1) (Nat.le_of_ble_eq_true rfl)
  rw [lg_entry_eq]
  generalize (lg_sl ([.ref a0]) ++ List.replicate (1 - (lg_sl ([.ref a0])).length) Slot.unset).toArray = ls at hl ⊢
  have hl : lv_has ls 1 [(0, .ref a0)] := hl
  unfold GX2_init at hF
  refine lv_aload_n hx hb dX2_init_0 rfl (lv_at hl 0 rfl) ?_
  refine lv_iconst (v := 3) hx hb dX2_init_1 (by decide) ?_
  refine lv_iconst (v := 1) hx hb dX2_init_2 (by decide) ?_
  obtain ⟨r1, u1, e1, hF⟩ := bnd_s hF
  have mm1 : hle u1 out.2 := (show Mo u1 _ from mo_ret hle_rf) _ hF
  obtain ⟨mc1, ms1, hmc1, hms1⟩ := up_of (moX2_init_2 n h a0 (3 : Int32) (1 : Int32) _ e1)
  replace hc := cst_call hc hmc1 hms1
  refine h_callv (va_runI (As := [.int 3, .int 1]) (rest := []) ⟨hx, hb, hml, hown, hts⟩ (mgX2_init_2 l D A h n a0 (3 : Int32) (1 : Int32) _ e1 mc1 ms1 hmc1 hms1) (cwI 2 hts (lw_meth q158) rfl rfl rfl (hts _ q102) (hts _ q156) (hts _ q157) rfl (by decide +kernel) ⟨Nat.le_of_ble_eq_true rfl, Nat.le_of_ble_eq_true rfl⟩) (h_preS hGr hr hS _) rfl rfl hl.1 rfl (lv_room (Nat.le_of_ble_eq_true rfl)) dX2_init_3 ⟨(bud hc mm1 hmc hms).1, (bud hc mm1 hmc hms).2⟩) hS (fun uu H locs hw hr hS => ?_)
  obtain rfl : u1 = uu := (congrArg Prod.snd hw).symm
  have bz := bud_r hc hF hmc hms
  refine W.widen (k := mc) (n := ms) bz.1 bz.2 ?_
  exact W.vret hx hb hret (fun t ht hWm => ⟨⟨u1, rfl, Option.some.inj hF, h_end hGr hr hS ht hWm⟩, hS.F ht⟩) hS.2.2 dX2_init_6

def GX2_copy (h : Hp) (a0 : Nat) : Option (Nat × Hp) := nW h 2 [.null, .int 0, .null, .null, .int 0, .int 0, .int 0, .null, .null, .int 0, .int 0] 11 (fun a1_ h1 => gQ h1 a0 2 0 (fun x2_ => gI h1 a0 2 1 (fun x3_ => bnd (GX2_init_3 h1 a1_ x2_ x3_) (fun r4 u4 => gQ u4 a0 2 2 (fun x5_ => pV u4 a1_ 2 2 (.ref x5_) (fun h6 => gQ h6 a0 2 3 (fun x7_ => pV h6 a1_ 2 3 (.ref x7_) (fun h8 => gI h8 a0 2 4 (fun x9_ => pV h8 a1_ 2 4 (.int x9_) (fun h10 => gI h10 a0 2 5 (fun x11_ => pV h10 a1_ 2 5 (.int x11_) (fun h12 => gI h12 a0 2 6 (fun x13_ => gd (zbB x13_) (pV h12 a1_ 2 6 (.int x13_) (fun h14 => gQ h14 a1_ 2 7 (fun x15_ => gQ h14 a0 2 7 (fun x16_ => gC h14 x15_ 10 (bnd (GJ2_addAll h14 x15_ x16_) (fun r17 u17 => gQ u17 a1_ 2 8 (fun x18_ => gQ u17 a0 2 8 (fun x19_ => gC u17 x18_ 10 (bnd (GJ2_addAll u17 x18_ x19_) (fun r20 u20 => gI u20 a0 2 9 (fun x21_ => pV u20 a1_ 2 9 (.int x21_) (fun h22 => gI h22 a0 2 10 (fun x23_ => pV h22 a1_ 2 10 (.int x23_) (fun h24 => some (a1_, h24))))))))))))))))))))))))))))
theorem moX2_copy (h : Hp) (a0 : Nat) : Mo h (GX2_copy h a0) := by
  unfold GX2_copy
  exact mo_nW hle_rf (fun a1_ h1 m1 => mo_gQ (fun x2_ => mo_gI (fun x3_ => mo_bnd (moX2_init_3 h1 a1_ x2_ x3_) m1 (fun r4 u4 m4 => mo_gQ (fun x5_ => mo_pV m4 (fun h6 m6 => mo_gQ (fun x7_ => mo_pV m6 (fun h8 m8 => mo_gI (fun x9_ => mo_pV m8 (fun h10 m10 => mo_gI (fun x11_ => mo_pV m10 (fun h12 m12 => mo_gI (fun x13_ => mo_gd (mo_pV m12 (fun h14 m14 => mo_gQ (fun x15_ => mo_gQ (fun x16_ => mo_gC (mo_bnd (moJ2_addAll h14 x15_ x16_) m14 (fun r17 u17 m17 => mo_gQ (fun x18_ => mo_gQ (fun x19_ => mo_gC (mo_bnd (moJ2_addAll u17 x18_ x19_) m17 (fun r20 u20 m20 => mo_gI (fun x21_ => mo_pV m20 (fun h22 m22 => mo_gI (fun x23_ => mo_pV m22 (fun h24 m24 => mo_ret m24)))))))))))))))))))))))))))
set_option maxHeartbeats 4000000 in
set_option maxRecDepth 100000 in
theorem mgX2_copy (l : Launch) (D : HD) (A : Nat → Prop) (h : Hp) (a0 : Nat) (out : Nat × Hp) (hF : GX2_copy h a0 = some out) (mc ms : Nat) (hmc : hCc out.2 = hCc h + mc) (hms : hSl out.2 = hSl h + ms) : Met l yX2_copy (ws_ yX2_copy cX2_copy 2 (some (.object "ExactChains$Process"))) ({ frames := 5, cells := mc, slots := ms, locals := 172 }) (va_Pc [.ref a0] (hW D A h)) (va_Qr (fun _ : Hp => True) (fun u r t => (r, u) = out ∧ hW D A u t) A) mc ms A := by
  refine Met.ofW (cc := cX2_copy) (maxL := 2) (ret := (some (.object "ExactChains$Process"))) (by decide +kernel) rfl ?_
  intro p e s m args below meth c s₁ B hml hv
  obtain ⟨rfl, hr, hGr⟩ := hv
  have hx := B.exec
  have hb := B.bytes
  have hret := B.returns
  have hts := atoms_spec (ws := (ws_ yX2_copy cX2_copy 2 (some (.object "ExactChains$Process")))) B.pre
  have hts : ∀ w ∈ lw_all, w.before _ s = true := fun w h => hts w (List.mem_cons_of_mem _ h)
  have hown : s.vm.findClass RX2 = some m.cls := findClass_of_methodNamed B.named
  have hlocks := B.notSynchronized
  have hS : va_S A s.heap s.heap [] := va_S.rf
  have hc : cst h 0 0 h := cst_0
  have hl := lv_entry ([.ref a0]) (n := 2) (Nat.le_of_ble_eq_true rfl)
  rw [lg_entry_eq]
  generalize (lg_sl ([.ref a0]) ++ List.replicate (2 - (lg_sl ([.ref a0])).length) Slot.unset).toArray = ls at hl ⊢
  have hl : lv_has ls 2 [(0, .ref a0)] := hl
  unfold GX2_copy at hF
  obtain ⟨a1_, h1, ea1, eh1, hF⟩ := nW_s hF
  have mm1 : hle h1 out.2 := (show Mo h1 _ from mo_gQ (fun x2_ => mo_gI (fun x3_ => mo_bnd (moX2_init_3 h1 a1_ x2_ x3_) hle_rf (fun r4 u4 m4 => mo_gQ (fun x5_ => mo_pV m4 (fun h6 m6 => mo_gQ (fun x7_ => mo_pV m6 (fun h8 m8 => mo_gI (fun x9_ => mo_pV m8 (fun h10 m10 => mo_gI (fun x11_ => mo_pV m10 (fun h12 m12 => mo_gI (fun x13_ => mo_gd (mo_pV m12 (fun h14 m14 => mo_gQ (fun x15_ => mo_gQ (fun x16_ => mo_gC (mo_bnd (moJ2_addAll h14 x15_ x16_) m14 (fun r17 u17 m17 => mo_gQ (fun x18_ => mo_gQ (fun x19_ => mo_gC (mo_bnd (moJ2_addAll u17 x18_ x19_) m17 (fun r20 u20 m20 => mo_gI (fun x21_ => mo_pV m20 (fun h22 m22 => mo_gI (fun x23_ => mo_pV m22 (fun h24 m24 => mo_ret m24))))))))))))))))))))))))))) _ hF
  replace hc := cst_new hc eh1
  refine h_new (C := RX2) (T := TX2) (N := 11) hx hb hts in_X2 tyX2 tyX2_ok hown (hts _ q678) (hts _ q152) (hts _ q102) hGr hr hS (ci := 2) (by decide) rfl (fs := [.null, .int 0, .null, .null, .int 0, .int 0, .int 0, .null, .null, .int 0, .int 0]) (fun j hj => by match j, hj with | 0, _ => rfl | 1, _ => rfl | 2, _ => rfl | 3, _ => rfl | 4, _ => rfl | 5, _ => rfl | 6, _ => rfl | 7, _ => rfl | 8, _ => rfl | 9, _ => rfl | 10, _ => rfl | j + 11, hj => omega) (bud hc mm1 hmc hms).1 (bud hc mm1 hmc hms).2 dX2_copy_0 (fun H hr hS => ?_)
  rw [← eh1] at hr
  rw [← ea1]
  refine lv_dup hx hb dX2_copy_3 rfl ?_
  refine lv_aload_n hx hb dX2_copy_4 rfl (lv_at hl 0 rfl) ?_
  obtain ⟨fs2, x2_, e2, f2, hF⟩ := gQ_s hF
  refine h_get (C := RX2) (T := TX2) (N := 11) hx hb hts in_X2 hown hGr hr e2 (by decide) rfl 0 (by decide) (hts _ q562) (fun _ h9 => h9) f2 dX2_copy_5 ?_
  refine lv_aload_n hx hb dX2_copy_8 rfl (lv_at hl 0 rfl) ?_
  obtain ⟨fs3, x3_, e3, f3, hF⟩ := gI_s hF
  refine h_get (C := RX2) (T := TX2) (N := 11) hx hb hts in_X2 hown hGr hr e3 (by decide) rfl 1 (by decide) (hts _ q565) (fun _ h9 => h9) f3 dX2_copy_9 ?_
  obtain ⟨r4, u4, e4, hF⟩ := bnd_s hF
  have mm4 : hle u4 out.2 := (show Mo u4 _ from mo_gQ (fun x5_ => mo_pV hle_rf (fun h6 m6 => mo_gQ (fun x7_ => mo_pV m6 (fun h8 m8 => mo_gI (fun x9_ => mo_pV m8 (fun h10 m10 => mo_gI (fun x11_ => mo_pV m10 (fun h12 m12 => mo_gI (fun x13_ => mo_gd (mo_pV m12 (fun h14 m14 => mo_gQ (fun x15_ => mo_gQ (fun x16_ => mo_gC (mo_bnd (moJ2_addAll h14 x15_ x16_) m14 (fun r17 u17 m17 => mo_gQ (fun x18_ => mo_gQ (fun x19_ => mo_gC (mo_bnd (moJ2_addAll u17 x18_ x19_) m17 (fun r20 u20 m20 => mo_gI (fun x21_ => mo_pV m20 (fun h22 m22 => mo_gI (fun x23_ => mo_pV m22 (fun h24 m24 => mo_ret m24)))))))))))))))))))))))) _ hF
  obtain ⟨mc4, ms4, hmc4, hms4⟩ := up_of (moX2_init_3 h1 a1_ x2_ x3_ _ e4)
  replace hc := cst_call hc hmc4 hms4
  refine h_callv (va_runI (As := [.ref x2_, .int x3_]) (rest := [.ref a1_]) ⟨hx, hb, hml, hown, hts⟩ (mgX2_init_3 l D A h1 a1_ x2_ x3_ _ e4 mc4 ms4 hmc4 hms4) (cwI 2 hts (lw_meth q180) rfl rfl rfl (hts _ q102) (hts _ q178) (hts _ q179) rfl (by decide +kernel) ⟨Nat.le_of_ble_eq_true rfl, Nat.le_of_ble_eq_true rfl⟩) (h_preS hGr hr hS _) rfl rfl hl.1 rfl (lv_room (Nat.le_of_ble_eq_true rfl)) dX2_copy_12 ⟨(bud hc mm4 hmc hms).1, (bud hc mm4 hmc hms).2⟩) hS (fun uu H locs hw hr hS => ?_)
  obtain rfl : u4 = uu := (congrArg Prod.snd hw).symm
  refine lv_astore_n (lv' := [(1, .ref a1_), (0, .ref a0)]) hx hb dX2_copy_15 rfl hl (by decide) rfl (fun ls hl => ?_)
  refine lv_aload_n hx hb dX2_copy_16 rfl (lv_at hl 0 rfl) ?_
  refine lv_aload_n hx hb dX2_copy_17 rfl (lv_at hl 1 rfl) ?_
  obtain ⟨fs5, x5_, e5, f5, hF⟩ := gQ_s hF
  refine h_get (C := RX2) (T := TX2) (N := 11) hx hb hts in_X2 hown hGr hr e5 (by decide) rfl 2 (by decide) (hts _ q568) (fun _ h9 => h9) f5 dX2_copy_18 ?_
  obtain ⟨fs6, e6, k6, lo6, hF⟩ := pV_s hF
  obtain ⟨h6, eh6⟩ : ∃ z, z = hPut u4 a1_ (.inr (2, fs6.set 2 (.ref x5_))) := ⟨_, rfl⟩
  rw [← eh6] at hF
  refine h_put (C := RX2) (T := TX2) (N := 11) hx hb hts in_X2 tyX2 tyX2_ok nmX2 hown hGr hr hS e6 (by decide) rfl 2 (by decide) (hts _ q568) (fun _ h9 => h9) rfl (tyX2_ok 2 (by decide)) rfl rfl k6 lo6 dX2_copy_21 (fun H locs hr hS => ?_)
  rw [← eh6] at hr
  replace hc := cst_put hc eh6
  refine lv_aload_n hx hb dX2_copy_24 rfl (lv_at hl 0 rfl) ?_
  refine lv_aload_n hx hb dX2_copy_25 rfl (lv_at hl 1 rfl) ?_
  obtain ⟨fs7, x7_, e7, f7, hF⟩ := gQ_s hF
  refine h_get (C := RX2) (T := TX2) (N := 11) hx hb hts in_X2 hown hGr hr e7 (by decide) rfl 3 (by decide) (hts _ q570) (fun _ h9 => h9) f7 dX2_copy_26 ?_
  obtain ⟨fs8, e8, k8, lo8, hF⟩ := pV_s hF
  obtain ⟨h8, eh8⟩ : ∃ z, z = hPut h6 a1_ (.inr (2, fs8.set 3 (.ref x7_))) := ⟨_, rfl⟩
  rw [← eh8] at hF
  refine h_put (C := RX2) (T := TX2) (N := 11) hx hb hts in_X2 tyX2 tyX2_ok nmX2 hown hGr hr hS e8 (by decide) rfl 3 (by decide) (hts _ q570) (fun _ h9 => h9) rfl (tyX2_ok 3 (by decide)) rfl rfl k8 lo8 dX2_copy_29 (fun H locs hr hS => ?_)
  rw [← eh8] at hr
  replace hc := cst_put hc eh8
  refine lv_aload_n hx hb dX2_copy_32 rfl (lv_at hl 0 rfl) ?_
  refine lv_aload_n hx hb dX2_copy_33 rfl (lv_at hl 1 rfl) ?_
  obtain ⟨fs9, x9_, e9, f9, hF⟩ := gI_s hF
  refine h_get (C := RX2) (T := TX2) (N := 11) hx hb hts in_X2 hown hGr hr e9 (by decide) rfl 4 (by decide) (hts _ q573) (fun _ h9 => h9) f9 dX2_copy_34 ?_
  obtain ⟨fs10, e10, k10, lo10, hF⟩ := pV_s hF
  obtain ⟨h10, eh10⟩ : ∃ z, z = hPut h8 a1_ (.inr (2, fs10.set 4 (.int x9_))) := ⟨_, rfl⟩
  rw [← eh10] at hF
  refine h_put (C := RX2) (T := TX2) (N := 11) hx hb hts in_X2 tyX2 tyX2_ok nmX2 hown hGr hr hS e10 (by decide) rfl 4 (by decide) (hts _ q573) (fun _ h9 => h9) rfl (tyX2_ok 4 (by decide)) rfl rfl k10 lo10 dX2_copy_37 (fun H locs hr hS => ?_)
  rw [← eh10] at hr
  replace hc := cst_put hc eh10
  refine lv_aload_n hx hb dX2_copy_40 rfl (lv_at hl 0 rfl) ?_
  refine lv_aload_n hx hb dX2_copy_41 rfl (lv_at hl 1 rfl) ?_
  obtain ⟨fs11, x11_, e11, f11, hF⟩ := gI_s hF
  refine h_get (C := RX2) (T := TX2) (N := 11) hx hb hts in_X2 hown hGr hr e11 (by decide) rfl 5 (by decide) (hts _ q576) (fun _ h9 => h9) f11 dX2_copy_42 ?_
  obtain ⟨fs12, e12, k12, lo12, hF⟩ := pV_s hF
  obtain ⟨h12, eh12⟩ : ∃ z, z = hPut h10 a1_ (.inr (2, fs12.set 5 (.int x11_))) := ⟨_, rfl⟩
  rw [← eh12] at hF
  refine h_put (C := RX2) (T := TX2) (N := 11) hx hb hts in_X2 tyX2 tyX2_ok nmX2 hown hGr hr hS e12 (by decide) rfl 5 (by decide) (hts _ q576) (fun _ h9 => h9) rfl (tyX2_ok 5 (by decide)) rfl rfl k12 lo12 dX2_copy_45 (fun H locs hr hS => ?_)
  rw [← eh12] at hr
  replace hc := cst_put hc eh12
  refine lv_aload_n hx hb dX2_copy_48 rfl (lv_at hl 0 rfl) ?_
  refine lv_aload_n hx hb dX2_copy_49 rfl (lv_at hl 1 rfl) ?_
  obtain ⟨fs13, x13_, e13, f13, hF⟩ := gI_s hF
  refine h_get (C := RX2) (T := TX2) (N := 11) hx hb hts in_X2 hown hGr hr e13 (by decide) rfl 6 (by decide) (hts _ q579) (fun _ h9 => h9) f13 dX2_copy_50 ?_
  obtain ⟨gz14, hF⟩ := gd_s hF
  obtain ⟨fs14, e14, k14, lo14, hF⟩ := pV_s hF
  obtain ⟨h14, eh14⟩ : ∃ z, z = hPut h12 a1_ (.inr (2, fs14.set 6 (.int x13_))) := ⟨_, rfl⟩
  rw [← eh14] at hF
  refine h_put (C := RX2) (T := TX2) (N := 11) hx hb hts in_X2 tyX2 tyX2_ok nmX2 hown hGr hr hS e14 (by decide) rfl 6 (by decide) (hts _ q579) (fun _ h9 => h9) rfl (tyX2_ok 6 (by decide)) (zb_of gz14) (zb_fit gz14) k14 lo14 dX2_copy_53 (fun H locs hr hS => ?_)
  rw [← eh14] at hr
  replace hc := cst_put hc eh14
  refine lv_aload_n hx hb dX2_copy_56 rfl (lv_at hl 0 rfl) ?_
  obtain ⟨fs15, x15_, e15, f15, hF⟩ := gQ_s hF
  refine h_get (C := RX2) (T := TX2) (N := 11) hx hb hts in_X2 hown hGr hr e15 (by decide) rfl 7 (by decide) (hts _ q582) (fun _ h9 => h9) f15 dX2_copy_57 ?_
  refine lv_aload_n hx hb dX2_copy_60 rfl (lv_at hl 1 rfl) ?_
  obtain ⟨fs16, x16_, e16, f16, hF⟩ := gQ_s hF
  refine h_get (C := RX2) (T := TX2) (N := 11) hx hb hts in_X2 hown hGr hr e16 (by decide) rfl 7 (by decide) (hts _ q582) (fun _ h9 => h9) f16 dX2_copy_61 ?_
  obtain ⟨fc17, ec17, hF⟩ := gC_s hF
  obtain ⟨r17, u17, e17, hF⟩ := bnd_s hF
  have mm17 : hle u17 out.2 := (show Mo u17 _ from mo_gQ (fun x18_ => mo_gQ (fun x19_ => mo_gC (mo_bnd (moJ2_addAll u17 x18_ x19_) hle_rf (fun r20 u20 m20 => mo_gI (fun x21_ => mo_pV m20 (fun h22 m22 => mo_gI (fun x23_ => mo_pV m22 (fun h24 m24 => mo_ret m24))))))))) _ hF
  obtain ⟨mc17, ms17, hmc17, hms17⟩ := up_of (moJ2_addAll h14 x15_ x16_ _ e17)
  replace hc := cst_call hc hmc17 hms17
  refine h_callFi (va_runF (hGr.K.1 10 _ rfl).2 (As := [.ref x16_]) (rest := []) ⟨hx, hb, hml, hown, hts⟩ (mgJ2_addAll l D A h14 x15_ x16_ _ e17 mc17 ms17 hmc17 hms17) (va_cwF 1 hts (lw_app (lw_fi q680 q684 q686 q106) (lw_meth q688)) rfl rfl rfl (fw_2 hGr) (by decide +kernel) ⟨Nat.le_of_ble_eq_true rfl, Nat.le_of_ble_eq_true rfl⟩) (h_preV hGr hr hS ec17 (by decide) (q := (RJ2, TJ2, 3)) rfl _) rfl rfl hl.1 rfl (lv_room (Nat.le_of_ble_eq_true rfl)) dX2_copy_64 ⟨(bud hc mm17 hmc hms).1, (bud hc mm17 hmc hms).2⟩) hS (fun rr uu H locs hw hr hS => ?_)
  obtain rfl : u17 = uu := (congrArg Prod.snd hw).symm
  obtain rfl : r17 = rr := (congrArg Prod.fst hw).symm
  refine lv_pop hx hb dX2_copy_69 rfl ?_
  refine lv_aload_n hx hb dX2_copy_70 rfl (lv_at hl 0 rfl) ?_
  obtain ⟨fs18, x18_, e18, f18, hF⟩ := gQ_s hF
  refine h_get (C := RX2) (T := TX2) (N := 11) hx hb hts in_X2 hown hGr hr e18 (by decide) rfl 8 (by decide) (hts _ q584) (fun _ h9 => h9) f18 dX2_copy_71 ?_
  refine lv_aload_n hx hb dX2_copy_74 rfl (lv_at hl 1 rfl) ?_
  obtain ⟨fs19, x19_, e19, f19, hF⟩ := gQ_s hF
  refine h_get (C := RX2) (T := TX2) (N := 11) hx hb hts in_X2 hown hGr hr e19 (by decide) rfl 8 (by decide) (hts _ q584) (fun _ h9 => h9) f19 dX2_copy_75 ?_
  obtain ⟨fc20, ec20, hF⟩ := gC_s hF
  obtain ⟨r20, u20, e20, hF⟩ := bnd_s hF
  have mm20 : hle u20 out.2 := (show Mo u20 _ from mo_gI (fun x21_ => mo_pV hle_rf (fun h22 m22 => mo_gI (fun x23_ => mo_pV m22 (fun h24 m24 => mo_ret m24))))) _ hF
  obtain ⟨mc20, ms20, hmc20, hms20⟩ := up_of (moJ2_addAll u17 x18_ x19_ _ e20)
  replace hc := cst_call hc hmc20 hms20
  refine h_callFi (va_runF (hGr.K.1 10 _ rfl).2 (As := [.ref x19_]) (rest := []) ⟨hx, hb, hml, hown, hts⟩ (mgJ2_addAll l D A u17 x18_ x19_ _ e20 mc20 ms20 hmc20 hms20) (va_cwF 1 hts (lw_app (lw_fi q680 q684 q686 q106) (lw_meth q688)) rfl rfl rfl (fw_2 hGr) (by decide +kernel) ⟨Nat.le_of_ble_eq_true rfl, Nat.le_of_ble_eq_true rfl⟩) (h_preV hGr hr hS ec20 (by decide) (q := (RJ2, TJ2, 3)) rfl _) rfl rfl hl.1 rfl (lv_room (Nat.le_of_ble_eq_true rfl)) dX2_copy_78 ⟨(bud hc mm20 hmc hms).1, (bud hc mm20 hmc hms).2⟩) hS (fun rr uu H locs hw hr hS => ?_)
  obtain rfl : u20 = uu := (congrArg Prod.snd hw).symm
  obtain rfl : r20 = rr := (congrArg Prod.fst hw).symm
  refine lv_pop hx hb dX2_copy_83 rfl ?_
  refine lv_aload_n hx hb dX2_copy_84 rfl (lv_at hl 0 rfl) ?_
  refine lv_aload_n hx hb dX2_copy_85 rfl (lv_at hl 1 rfl) ?_
  obtain ⟨fs21, x21_, e21, f21, hF⟩ := gI_s hF
  refine h_get (C := RX2) (T := TX2) (N := 11) hx hb hts in_X2 hown hGr hr e21 (by decide) rfl 9 (by decide) (hts _ q586) (fun _ h9 => h9) f21 dX2_copy_86 ?_
  obtain ⟨fs22, e22, k22, lo22, hF⟩ := pV_s hF
  obtain ⟨h22, eh22⟩ : ∃ z, z = hPut u20 a1_ (.inr (2, fs22.set 9 (.int x21_))) := ⟨_, rfl⟩
  rw [← eh22] at hF
  refine h_put (C := RX2) (T := TX2) (N := 11) hx hb hts in_X2 tyX2 tyX2_ok nmX2 hown hGr hr hS e22 (by decide) rfl 9 (by decide) (hts _ q586) (fun _ h9 => h9) rfl (tyX2_ok 9 (by decide)) rfl rfl k22 lo22 dX2_copy_89 (fun H locs hr hS => ?_)
  rw [← eh22] at hr
  replace hc := cst_put hc eh22
  refine lv_aload_n hx hb dX2_copy_92 rfl (lv_at hl 0 rfl) ?_
  refine lv_aload_n hx hb dX2_copy_93 rfl (lv_at hl 1 rfl) ?_
  obtain ⟨fs23, x23_, e23, f23, hF⟩ := gI_s hF
  refine h_get (C := RX2) (T := TX2) (N := 11) hx hb hts in_X2 hown hGr hr e23 (by decide) rfl 10 (by decide) (hts _ q588) (fun _ h9 => h9) f23 dX2_copy_94 ?_
  obtain ⟨fs24, e24, k24, lo24, hF⟩ := pV_s hF
  obtain ⟨h24, eh24⟩ : ∃ z, z = hPut h22 a1_ (.inr (2, fs24.set 10 (.int x23_))) := ⟨_, rfl⟩
  rw [← eh24] at hF
  refine h_put (C := RX2) (T := TX2) (N := 11) hx hb hts in_X2 tyX2 tyX2_ok nmX2 hown hGr hr hS e24 (by decide) rfl 10 (by decide) (hts _ q588) (fun _ h9 => h9) rfl (tyX2_ok 10 (by decide)) rfl rfl k24 lo24 dX2_copy_97 (fun H locs hr hS => ?_)
  rw [← eh24] at hr
  replace hc := cst_put hc eh24
  refine lv_aload_n hx hb dX2_copy_100 rfl (lv_at hl 0 rfl) ?_
  have bz := bud_r hc hF hmc hms
  refine W.widen (k := mc) (n := ms) bz.1 bz.2 ?_
  exact W.aret (v := .ref a1_) hx hb hret (Or.inl ⟨_, rfl⟩) (Or.inr ⟨_, rfl⟩) (fun t ht hWm => ⟨⟨h24, a1_, rfl, trivial, Option.some.inj hF, h_end hGr hr hS ht hWm⟩, hS.F ht⟩) hS.2.2 dX2_copy_101

def GX2_anew (n : Nat) (h : Hp) (a0 : Nat) : Option (Nat × Hp) := gC h a0 2 (bnd (GX2_copy h a0) (fun r1 u1 => gQ u1 r1 2 7 (fun x2_ => gC u1 x2_ 10 (bnd (GJ2_clear n u1 x2_) (fun r3 u3 => gQ u3 r1 2 8 (fun x4_ => gC u3 x4_ 10 (bnd (GJ2_clear n u3 x4_) (fun r5 u5 => pV u5 r1 2 9 (.int 0) (fun h6 => pV h6 r1 2 10 (.int 0) (fun h7 => some (r1, h7)))))))))))
theorem moX2_anew (n : Nat) (h : Hp) (a0 : Nat) : Mo h (GX2_anew n h a0) := by
  unfold GX2_anew
  exact mo_gC (mo_bnd (moX2_copy h a0) hle_rf (fun r1 u1 m1 => mo_gQ (fun x2_ => mo_gC (mo_bnd (moJ2_clear n u1 x2_) m1 (fun r3 u3 m3 => mo_gQ (fun x4_ => mo_gC (mo_bnd (moJ2_clear n u3 x4_) m3 (fun r5 u5 m5 => mo_pV m5 (fun h6 m6 => mo_pV m6 (fun h7 m7 => mo_ret m7))))))))))
set_option maxHeartbeats 4000000 in
set_option maxRecDepth 100000 in
theorem mgX2_anew (l : Launch) (D : HD) (A : Nat → Prop) (h : Hp) (n : Nat) (a0 : Nat) (out : Nat × Hp) (hF : GX2_anew n h a0 = some out) (mc ms : Nat) (hmc : hCc out.2 = hCc h + mc) (hms : hSl out.2 = hSl h + ms) : Met l yX2_anew (ws_ yX2_anew cX2_anew 2 (some (.object "ExactChains$Process"))) ({ frames := 6, cells := mc, slots := ms, locals := 193 }) (va_Pc [.ref a0] (hW D A h)) (va_Qr (fun _ : Hp => True) (fun u r t => (r, u) = out ∧ hW D A u t) A) mc ms A := by
  refine Met.ofW (cc := cX2_anew) (maxL := 2) (ret := (some (.object "ExactChains$Process"))) (by decide +kernel) rfl ?_
  intro p e s m args below meth c s₁ B hml hv
  obtain ⟨rfl, hr, hGr⟩ := hv
  have hx := B.exec
  have hb := B.bytes
  have hret := B.returns
  have hts := atoms_spec (ws := (ws_ yX2_anew cX2_anew 2 (some (.object "ExactChains$Process")))) B.pre
  have hts : ∀ w ∈ lw_all, w.before _ s = true := fun w h => hts w (List.mem_cons_of_mem _ h)
  have hown : s.vm.findClass RX2 = some m.cls := findClass_of_methodNamed B.named
  have hlocks := B.notSynchronized
  have hS : va_S A s.heap s.heap [] := va_S.rf
  have hc : cst h 0 0 h := cst_0
  have hl := lv_entry ([.ref a0]) (n := 2) (Nat.le_of_ble_eq_true rfl)
  rw [lg_entry_eq]
  generalize (lg_sl ([.ref a0]) ++ List.replicate (2 - (lg_sl ([.ref a0])).length) Slot.unset).toArray = ls at hl ⊢
  have hl : lv_has ls 2 [(0, .ref a0)] := hl
  unfold GX2_anew at hF
  refine lv_aload_n hx hb dX2_anew_0 rfl (lv_at hl 0 rfl) ?_
  obtain ⟨fc1, ec1, hF⟩ := gC_s hF
  obtain ⟨r1, u1, e1, hF⟩ := bnd_s hF
  have mm1 : hle u1 out.2 := (show Mo u1 _ from mo_gQ (fun x2_ => mo_gC (mo_bnd (moJ2_clear n u1 x2_) hle_rf (fun r3 u3 m3 => mo_gQ (fun x4_ => mo_gC (mo_bnd (moJ2_clear n u3 x4_) m3 (fun r5 u5 m5 => mo_pV m5 (fun h6 m6 => mo_pV m6 (fun h7 m7 => mo_ret m7))))))))) _ hF
  obtain ⟨mc1, ms1, hmc1, hms1⟩ := up_of (moX2_copy h a0 _ e1)
  replace hc := cst_call hc hmc1 hms1
  refine h_callr (va_runV (As := []) (rest := []) ⟨hx, hb, hml, hown, hts⟩ (mgX2_copy l D A h a0 _ e1 mc1 ms1 hmc1 hms1) (cwV 0 hts (lw_V q674 q675 q676 q102 q677) rfl rfl rfl (by decide +kernel) ⟨Nat.le_of_ble_eq_true rfl, Nat.le_of_ble_eq_true rfl⟩) (h_preV hGr hr hS ec1 (by decide) (q := (RX2, TX2, 11)) rfl _) rfl rfl hl.1 rfl (lv_room (Nat.le_of_ble_eq_true rfl)) dX2_anew_1 ⟨(bud hc mm1 hmc hms).1, (bud hc mm1 hmc hms).2⟩) hS (fun rr uu H locs hw hr hS => ?_)
  obtain rfl : u1 = uu := (congrArg Prod.snd hw).symm
  obtain rfl : r1 = rr := (congrArg Prod.fst hw).symm
  refine lv_astore_n (lv' := [(1, .ref r1), (0, .ref a0)]) hx hb dX2_anew_4 rfl hl (by decide) rfl (fun ls hl => ?_)
  refine lv_aload_n hx hb dX2_anew_5 rfl (lv_at hl 0 rfl) ?_
  obtain ⟨fs2, x2_, e2, f2, hF⟩ := gQ_s hF
  refine h_get (C := RX2) (T := TX2) (N := 11) hx hb hts in_X2 hown hGr hr e2 (by decide) rfl 7 (by decide) (hts _ q582) (fun _ h9 => h9) f2 dX2_anew_6 ?_
  obtain ⟨fc3, ec3, hF⟩ := gC_s hF
  obtain ⟨r3, u3, e3, hF⟩ := bnd_s hF
  have mm3 : hle u3 out.2 := (show Mo u3 _ from mo_gQ (fun x4_ => mo_gC (mo_bnd (moJ2_clear n u3 x4_) hle_rf (fun r5 u5 m5 => mo_pV m5 (fun h6 m6 => mo_pV m6 (fun h7 m7 => mo_ret m7)))))) _ hF
  obtain ⟨mc3, ms3, hmc3, hms3⟩ := up_of (moJ2_clear n u1 x2_ _ e3)
  replace hc := cst_call hc hmc3 hms3
  refine h_callFv (va_runF (hGr.K.1 10 _ rfl).2 (As := []) (rest := []) ⟨hx, hb, hml, hown, hts⟩ (mgJ2_clear l D A u1 n x2_ _ e3 mc3 ms3 hmc3 hms3) (va_cwF 0 hts (lw_app (lw_fi q762 q765 q767 q106) (lw_meth q769)) rfl rfl rfl (fw_3 hGr) (by decide +kernel) ⟨Nat.le_of_ble_eq_true rfl, Nat.le_of_ble_eq_true rfl⟩) (h_preV hGr hr hS ec3 (by decide) (q := (RJ2, TJ2, 3)) rfl _) rfl rfl hl.1 rfl (lv_room (Nat.le_of_ble_eq_true rfl)) dX2_anew_9 ⟨(bud hc mm3 hmc hms).1, (bud hc mm3 hmc hms).2⟩) hS (fun uu H locs hw hr hS => ?_)
  obtain rfl : u3 = uu := (congrArg Prod.snd hw).symm
  refine lv_aload_n hx hb dX2_anew_14 rfl (lv_at hl 0 rfl) ?_
  obtain ⟨fs4, x4_, e4, f4, hF⟩ := gQ_s hF
  refine h_get (C := RX2) (T := TX2) (N := 11) hx hb hts in_X2 hown hGr hr e4 (by decide) rfl 8 (by decide) (hts _ q584) (fun _ h9 => h9) f4 dX2_anew_15 ?_
  obtain ⟨fc5, ec5, hF⟩ := gC_s hF
  obtain ⟨r5, u5, e5, hF⟩ := bnd_s hF
  have mm5 : hle u5 out.2 := (show Mo u5 _ from mo_pV hle_rf (fun h6 m6 => mo_pV m6 (fun h7 m7 => mo_ret m7))) _ hF
  obtain ⟨mc5, ms5, hmc5, hms5⟩ := up_of (moJ2_clear n u3 x4_ _ e5)
  replace hc := cst_call hc hmc5 hms5
  refine h_callFv (va_runF (hGr.K.1 10 _ rfl).2 (As := []) (rest := []) ⟨hx, hb, hml, hown, hts⟩ (mgJ2_clear l D A u3 n x4_ _ e5 mc5 ms5 hmc5 hms5) (va_cwF 0 hts (lw_app (lw_fi q762 q765 q767 q106) (lw_meth q769)) rfl rfl rfl (fw_3 hGr) (by decide +kernel) ⟨Nat.le_of_ble_eq_true rfl, Nat.le_of_ble_eq_true rfl⟩) (h_preV hGr hr hS ec5 (by decide) (q := (RJ2, TJ2, 3)) rfl _) rfl rfl hl.1 rfl (lv_room (Nat.le_of_ble_eq_true rfl)) dX2_anew_18 ⟨(bud hc mm5 hmc hms).1, (bud hc mm5 hmc hms).2⟩) hS (fun uu H locs hw hr hS => ?_)
  obtain rfl : u5 = uu := (congrArg Prod.snd hw).symm
  refine lv_aload_n hx hb dX2_anew_23 rfl (lv_at hl 0 rfl) ?_
  refine lv_iconst (v := 0) hx hb dX2_anew_24 (by decide) ?_
  obtain ⟨fs6, e6, k6, lo6, hF⟩ := pV_s hF
  obtain ⟨h6, eh6⟩ : ∃ z, z = hPut u5 r1 (.inr (2, fs6.set 9 (.int 0))) := ⟨_, rfl⟩
  rw [← eh6] at hF
  refine h_put (C := RX2) (T := TX2) (N := 11) hx hb hts in_X2 tyX2 tyX2_ok nmX2 hown hGr hr hS e6 (by decide) rfl 9 (by decide) (hts _ q586) (fun _ h9 => h9) rfl (tyX2_ok 9 (by decide)) rfl rfl k6 lo6 dX2_anew_25 (fun H locs hr hS => ?_)
  rw [← eh6] at hr
  replace hc := cst_put hc eh6
  refine lv_aload_n hx hb dX2_anew_28 rfl (lv_at hl 0 rfl) ?_
  refine lv_iconst (v := 0) hx hb dX2_anew_29 (by decide) ?_
  obtain ⟨fs7, e7, k7, lo7, hF⟩ := pV_s hF
  obtain ⟨h7, eh7⟩ : ∃ z, z = hPut h6 r1 (.inr (2, fs7.set 10 (.int 0))) := ⟨_, rfl⟩
  rw [← eh7] at hF
  refine h_put (C := RX2) (T := TX2) (N := 11) hx hb hts in_X2 tyX2 tyX2_ok nmX2 hown hGr hr hS e7 (by decide) rfl 10 (by decide) (hts _ q588) (fun _ h9 => h9) rfl (tyX2_ok 10 (by decide)) rfl rfl k7 lo7 dX2_anew_30 (fun H locs hr hS => ?_)
  rw [← eh7] at hr
  replace hc := cst_put hc eh7
  refine lv_aload_n hx hb dX2_anew_33 rfl (lv_at hl 0 rfl) ?_
  have bz := bud_r hc hF hmc hms
  refine W.widen (k := mc) (n := ms) bz.1 bz.2 ?_
  exact W.aret (v := .ref r1) hx hb hret (Or.inl ⟨_, rfl⟩) (Or.inr ⟨_, rfl⟩) (fun t ht hWm => ⟨⟨h7, r1, rfl, trivial, Option.some.inj hF, h_end hGr hr hS ht hWm⟩, hS.F ht⟩) hS.2.2 dX2_anew_34

def GX2_vector (h : Hp) (a0 : Nat) (p1 : Int32) : Option (Nat × Hp) := gQ h a0 2 7 (fun x1_ => gC h x1_ 10 (bnd (GJ2_get h x1_ p1) (fun r2 u2 => gC u2 r2 8 (gC u2 r2 8 (bnd (GX9_vector u2 r2) (fun r4 u4 => some (r4, u4)))))))
theorem moX2_vector (h : Hp) (a0 : Nat) (p1 : Int32) : Mo h (GX2_vector h a0 p1) := by
  unfold GX2_vector
  exact mo_gQ (fun x1_ => mo_gC (mo_bnd (moJ2_get h x1_ p1) hle_rf (fun r2 u2 m2 => mo_gC (mo_gC (mo_bnd (moX9_vector u2 r2) m2 (fun r4 u4 m4 => mo_ret m4))))))
set_option maxHeartbeats 4000000 in
set_option maxRecDepth 100000 in
theorem mgX2_vector (l : Launch) (D : HD) (A : Nat → Prop) (h : Hp) (a0 : Nat) (p1 : Int32) (out : Nat × Hp) (hF : GX2_vector h a0 p1 = some out) (mc ms : Nat) (hmc : hCc out.2 = hCc h + mc) (hms : hSl out.2 = hSl h + ms) : Met l yX2_vector (ws_ yX2_vector cX2_vector 2 (some (.object "ExactChains$Vector"))) ({ frames := 3, cells := mc, slots := ms, locals := 64 }) (va_Pc [.ref a0, .int p1] (hW D A h)) (va_Qr (fun _ : Hp => True) (fun u r t => (r, u) = out ∧ hW D A u t) A) mc ms A := by
  refine Met.ofW (cc := cX2_vector) (maxL := 2) (ret := (some (.object "ExactChains$Vector"))) (by decide +kernel) rfl ?_
  intro p e s m args below meth c s₁ B hml hv
  obtain ⟨rfl, hr, hGr⟩ := hv
  have hx := B.exec
  have hb := B.bytes
  have hret := B.returns
  have hts := atoms_spec (ws := (ws_ yX2_vector cX2_vector 2 (some (.object "ExactChains$Vector")))) B.pre
  have hts : ∀ w ∈ lw_all, w.before _ s = true := fun w h => hts w (List.mem_cons_of_mem _ h)
  have hown : s.vm.findClass RX2 = some m.cls := findClass_of_methodNamed B.named
  have hlocks := B.notSynchronized
  have hS : va_S A s.heap s.heap [] := va_S.rf
  have hc : cst h 0 0 h := cst_0
  have hl := lv_entry ([.ref a0, .int p1]) (n := 2) (Nat.le_of_ble_eq_true rfl)
  rw [lg_entry_eq]
  generalize (lg_sl ([.ref a0, .int p1]) ++ List.replicate (2 - (lg_sl ([.ref a0, .int p1])).length) Slot.unset).toArray = ls at hl ⊢
  have hl : lv_has ls 2 [(0, .ref a0), (1, .int p1)] := hl
  unfold GX2_vector at hF
  refine lv_aload_n hx hb dX2_vector_0 rfl (lv_at hl 0 rfl) ?_
  obtain ⟨fs1, x1_, e1, f1, hF⟩ := gQ_s hF
  refine h_get (C := RX2) (T := TX2) (N := 11) hx hb hts in_X2 hown hGr hr e1 (by decide) rfl 7 (by decide) (hts _ q582) (fun _ h9 => h9) f1 dX2_vector_1 ?_
  refine lv_iload_n hx hb dX2_vector_4 rfl (lv_at hl 1 rfl) ?_
  obtain ⟨fc2, ec2, hF⟩ := gC_s hF
  obtain ⟨r2, u2, e2, hF⟩ := bnd_s hF
  have mm2 : hle u2 out.2 := (show Mo u2 _ from mo_gC (mo_gC (mo_bnd (moX9_vector u2 r2) hle_rf (fun r4 u4 m4 => mo_ret m4)))) _ hF
  obtain ⟨mc2, ms2, hmc2, hms2⟩ := up_of (moJ2_get h x1_ p1 _ e2)
  replace hc := cst_call hc hmc2 hms2
  refine h_callFr (va_runF (hGr.K.1 10 _ rfl).2 (As := [.int p1]) (rest := []) ⟨hx, hb, hml, hown, hts⟩ (mgJ2_get l D A h x1_ p1 _ e2 mc2 ms2 hmc2 hms2) (va_cwF 1 hts (lw_app (lw_fi q931 q934 q936 q106) (lw_meth q938)) rfl rfl rfl (fw_7 hGr) (by decide +kernel) ⟨Nat.le_of_ble_eq_true rfl, Nat.le_of_ble_eq_true rfl⟩) (h_preV hGr hr hS ec2 (by decide) (q := (RJ2, TJ2, 3)) rfl _) rfl rfl hl.1 rfl (lv_room (Nat.le_of_ble_eq_true rfl)) dX2_vector_5 ⟨(bud hc mm2 hmc hms).1, (bud hc mm2 hmc hms).2⟩) hS (fun rr uu H locs hw hr hS => ?_)
  obtain rfl : u2 = uu := (congrArg Prod.snd hw).symm
  obtain rfl : r2 = rr := (congrArg Prod.fst hw).symm
  obtain ⟨fs3, e3, hF⟩ := gC_s hF
  refine h_cast hx hb hown (hts _ q976) hGr hr e3 (by decide) (T := TX9) (N := 3) rfl dX2_vector_10 ?_
  obtain ⟨fc4, ec4, hF⟩ := gC_s hF
  obtain ⟨r4, u4, e4, hF⟩ := bnd_s hF
  have mm4 : hle u4 out.2 := (show Mo u4 _ from mo_ret hle_rf) _ hF
  obtain ⟨mc4, ms4, hmc4, hms4⟩ := up_of (moX9_vector u2 r2 _ e4)
  replace hc := cst_call hc hmc4 hms4
  refine h_callr (va_runV (As := []) (rest := []) ⟨hx, hb, hml, hown, hts⟩ (mgX9_vector l D A u2 r2 _ e4 mc4 ms4 hmc4 hms4) (cwV 0 hts (lw_V q1017 q1018 q1019 q140 q1020) rfl rfl rfl (by decide +kernel) ⟨Nat.le_of_ble_eq_true rfl, Nat.le_of_ble_eq_true rfl⟩) (h_preV hGr hr hS ec4 (by decide) (q := (RX9, TX9, 3)) rfl _) rfl rfl hl.1 rfl (lv_room (Nat.le_of_ble_eq_true rfl)) dX2_vector_13 ⟨(bud hc mm4 hmc hms).1, (bud hc mm4 hmc hms).2⟩) hS (fun rr uu H locs hw hr hS => ?_)
  obtain rfl : u4 = uu := (congrArg Prod.snd hw).symm
  obtain rfl : r4 = rr := (congrArg Prod.fst hw).symm
  have bz := bud_r hc hF hmc hms
  refine W.widen (k := mc) (n := ms) bz.1 bz.2 ?_
  exact W.aret (v := .ref r4) hx hb hret (Or.inl ⟨_, rfl⟩) (Or.inr ⟨_, rfl⟩) (fun t ht hWm => ⟨⟨u4, r4, rfl, trivial, Option.some.inj hF, h_end hGr hr hS ht hWm⟩, hS.F ht⟩) hS.2.2 dX2_vector_16

def GX2_norm (h : Hp) (a0 : Nat) (p1 : Int32) : Option (Int32 × Hp) := gQ h a0 2 7 (fun x1_ => gC h x1_ 10 (bnd (GJ2_get h x1_ p1) (fun r2 u2 => gC u2 r2 8 (gC u2 r2 8 (bnd (GX9_norm u2 r2) (fun r4 u4 => some (r4, u4)))))))
theorem moX2_norm (h : Hp) (a0 : Nat) (p1 : Int32) : Mo h (GX2_norm h a0 p1) := by
  unfold GX2_norm
  exact mo_gQ (fun x1_ => mo_gC (mo_bnd (moJ2_get h x1_ p1) hle_rf (fun r2 u2 m2 => mo_gC (mo_gC (mo_bnd (moX9_norm u2 r2) m2 (fun r4 u4 m4 => mo_ret m4))))))
set_option maxHeartbeats 4000000 in
set_option maxRecDepth 100000 in
theorem mgX2_norm (l : Launch) (D : HD) (A : Nat → Prop) (h : Hp) (a0 : Nat) (p1 : Int32) (out : Int32 × Hp) (hF : GX2_norm h a0 p1 = some out) (mc ms : Nat) (hmc : hCc out.2 = hCc h + mc) (hms : hSl out.2 = hSl h + ms) : Met l yX2_norm (ws_ yX2_norm cX2_norm 2 (some .int)) ({ frames := 3, cells := mc, slots := ms, locals := 64 }) (va_Pc [.ref a0, .int p1] (hW D A h)) (va_Qi (fun r u => (r, u) = out) (hW D A) A) mc ms A := by
  refine Met.ofW (cc := cX2_norm) (maxL := 2) (ret := (some .int)) (by decide +kernel) rfl ?_
  intro p e s m args below meth c s₁ B hml hv
  obtain ⟨rfl, hr, hGr⟩ := hv
  have hx := B.exec
  have hb := B.bytes
  have hret := B.returns
  have hts := atoms_spec (ws := (ws_ yX2_norm cX2_norm 2 (some .int))) B.pre
  have hts : ∀ w ∈ lw_all, w.before _ s = true := fun w h => hts w (List.mem_cons_of_mem _ h)
  have hown : s.vm.findClass RX2 = some m.cls := findClass_of_methodNamed B.named
  have hlocks := B.notSynchronized
  have hS : va_S A s.heap s.heap [] := va_S.rf
  have hc : cst h 0 0 h := cst_0
  have hl := lv_entry ([.ref a0, .int p1]) (n := 2) (Nat.le_of_ble_eq_true rfl)
  rw [lg_entry_eq]
  generalize (lg_sl ([.ref a0, .int p1]) ++ List.replicate (2 - (lg_sl ([.ref a0, .int p1])).length) Slot.unset).toArray = ls at hl ⊢
  have hl : lv_has ls 2 [(0, .ref a0), (1, .int p1)] := hl
  unfold GX2_norm at hF
  refine lv_aload_n hx hb dX2_norm_0 rfl (lv_at hl 0 rfl) ?_
  obtain ⟨fs1, x1_, e1, f1, hF⟩ := gQ_s hF
  refine h_get (C := RX2) (T := TX2) (N := 11) hx hb hts in_X2 hown hGr hr e1 (by decide) rfl 7 (by decide) (hts _ q582) (fun _ h9 => h9) f1 dX2_norm_1 ?_
  refine lv_iload_n hx hb dX2_norm_4 rfl (lv_at hl 1 rfl) ?_
  obtain ⟨fc2, ec2, hF⟩ := gC_s hF
  obtain ⟨r2, u2, e2, hF⟩ := bnd_s hF
  have mm2 : hle u2 out.2 := (show Mo u2 _ from mo_gC (mo_gC (mo_bnd (moX9_norm u2 r2) hle_rf (fun r4 u4 m4 => mo_ret m4)))) _ hF
  obtain ⟨mc2, ms2, hmc2, hms2⟩ := up_of (moJ2_get h x1_ p1 _ e2)
  replace hc := cst_call hc hmc2 hms2
  refine h_callFr (va_runF (hGr.K.1 10 _ rfl).2 (As := [.int p1]) (rest := []) ⟨hx, hb, hml, hown, hts⟩ (mgJ2_get l D A h x1_ p1 _ e2 mc2 ms2 hmc2 hms2) (va_cwF 1 hts (lw_app (lw_fi q931 q934 q936 q106) (lw_meth q938)) rfl rfl rfl (fw_7 hGr) (by decide +kernel) ⟨Nat.le_of_ble_eq_true rfl, Nat.le_of_ble_eq_true rfl⟩) (h_preV hGr hr hS ec2 (by decide) (q := (RJ2, TJ2, 3)) rfl _) rfl rfl hl.1 rfl (lv_room (Nat.le_of_ble_eq_true rfl)) dX2_norm_5 ⟨(bud hc mm2 hmc hms).1, (bud hc mm2 hmc hms).2⟩) hS (fun rr uu H locs hw hr hS => ?_)
  obtain rfl : u2 = uu := (congrArg Prod.snd hw).symm
  obtain rfl : r2 = rr := (congrArg Prod.fst hw).symm
  obtain ⟨fs3, e3, hF⟩ := gC_s hF
  refine h_cast hx hb hown (hts _ q976) hGr hr e3 (by decide) (T := TX9) (N := 3) rfl dX2_norm_10 ?_
  obtain ⟨fc4, ec4, hF⟩ := gC_s hF
  obtain ⟨r4, u4, e4, hF⟩ := bnd_s hF
  have mm4 : hle u4 out.2 := (show Mo u4 _ from mo_ret hle_rf) _ hF
  obtain ⟨mc4, ms4, hmc4, hms4⟩ := up_of (moX9_norm u2 r2 _ e4)
  replace hc := cst_call hc hmc4 hms4
  refine h_calli (va_runV (As := []) (rest := []) ⟨hx, hb, hml, hown, hts⟩ (mgX9_norm l D A u2 r2 _ e4 mc4 ms4 hmc4 hms4) (cwV 0 hts (lw_V q1025 q1026 q1027 q140 q1028) rfl rfl rfl (by decide +kernel) ⟨Nat.le_of_ble_eq_true rfl, Nat.le_of_ble_eq_true rfl⟩) (h_preV hGr hr hS ec4 (by decide) (q := (RX9, TX9, 3)) rfl _) rfl rfl hl.1 rfl (lv_room (Nat.le_of_ble_eq_true rfl)) dX2_norm_13 ⟨(bud hc mm4 hmc hms).1, (bud hc mm4 hmc hms).2⟩) hS (fun rr uu H locs hw hr hS => ?_)
  obtain rfl : u4 = uu := (congrArg Prod.snd hw).symm
  obtain rfl : r4 = rr := (congrArg Prod.fst hw).symm
  have bz := bud_r hc hF hmc hms
  refine W.widen (k := mc) (n := ms) bz.1 bz.2 ?_
  exact W.iret (v := r4) hx hb hret (fun t ht hWm => ⟨⟨r4, u4, rfl, Option.some.inj hF, h_end hGr hr hS ht hWm⟩, hS.F ht⟩) hS.2.2 dX2_norm_16

def GX2_times (n : Nat) (h : Hp) (a0 : Nat) (a1 : Nat) : Option (Nat × Hp) := gQ h a0 2 0 (fun x1_ => gQ h a0 2 2 (fun x2_ => gC h x1_ 3 (bnd (GX3_times n h x1_ x2_ a1) (fun r3 u3 => some (r3, u3)))))
theorem moX2_times (n : Nat) (h : Hp) (a0 : Nat) (a1 : Nat) : Mo h (GX2_times n h a0 a1) := by
  unfold GX2_times
  exact mo_gQ (fun x1_ => mo_gQ (fun x2_ => mo_gC (mo_bnd (moX3_times n h x1_ x2_ a1) hle_rf (fun r3 u3 m3 => mo_ret m3))))
set_option maxHeartbeats 4000000 in
set_option maxRecDepth 100000 in
theorem mgX2_times (l : Launch) (D : HD) (A : Nat → Prop) (h : Hp) (n : Nat) (a0 : Nat) (a1 : Nat) (out : Nat × Hp) (hF : GX2_times n h a0 a1 = some out) (mc ms : Nat) (hmc : hCc out.2 = hCc h + mc) (hms : hSl out.2 = hSl h + ms) : Met l yX2_times (ws_ yX2_times cX2_times 2 (some (.object "ExactChains$Vector"))) ({ frames := 3, cells := mc, slots := ms, locals := 65 }) (va_Pc [.ref a0, .ref a1] (hW D A h)) (va_Qr (fun _ : Hp => True) (fun u r t => (r, u) = out ∧ hW D A u t) A) mc ms A := by
  refine Met.ofW (cc := cX2_times) (maxL := 2) (ret := (some (.object "ExactChains$Vector"))) (by decide +kernel) rfl ?_
  intro p e s m args below meth c s₁ B hml hv
  obtain ⟨rfl, hr, hGr⟩ := hv
  have hx := B.exec
  have hb := B.bytes
  have hret := B.returns
  have hts := atoms_spec (ws := (ws_ yX2_times cX2_times 2 (some (.object "ExactChains$Vector")))) B.pre
  have hts : ∀ w ∈ lw_all, w.before _ s = true := fun w h => hts w (List.mem_cons_of_mem _ h)
  have hown : s.vm.findClass RX2 = some m.cls := findClass_of_methodNamed B.named
  have hlocks := B.notSynchronized
  have hS : va_S A s.heap s.heap [] := va_S.rf
  have hc : cst h 0 0 h := cst_0
  have hl := lv_entry ([.ref a0, .ref a1]) (n := 2) (Nat.le_of_ble_eq_true rfl)
  rw [lg_entry_eq]
  generalize (lg_sl ([.ref a0, .ref a1]) ++ List.replicate (2 - (lg_sl ([.ref a0, .ref a1])).length) Slot.unset).toArray = ls at hl ⊢
  have hl : lv_has ls 2 [(0, .ref a0), (1, .ref a1)] := hl
  unfold GX2_times at hF
  refine lv_aload_n hx hb dX2_times_0 rfl (lv_at hl 0 rfl) ?_
  obtain ⟨fs1, x1_, e1, f1, hF⟩ := gQ_s hF
  refine h_get (C := RX2) (T := TX2) (N := 11) hx hb hts in_X2 hown hGr hr e1 (by decide) rfl 0 (by decide) (hts _ q562) (fun _ h9 => h9) f1 dX2_times_1 ?_
  refine lv_aload_n hx hb dX2_times_4 rfl (lv_at hl 0 rfl) ?_
  obtain ⟨fs2, x2_, e2, f2, hF⟩ := gQ_s hF
  refine h_get (C := RX2) (T := TX2) (N := 11) hx hb hts in_X2 hown hGr hr e2 (by decide) rfl 2 (by decide) (hts _ q568) (fun _ h9 => h9) f2 dX2_times_5 ?_
  refine lv_aload_n hx hb dX2_times_8 rfl (lv_at hl 1 rfl) ?_
  obtain ⟨fc3, ec3, hF⟩ := gC_s hF
  obtain ⟨r3, u3, e3, hF⟩ := bnd_s hF
  have mm3 : hle u3 out.2 := (show Mo u3 _ from mo_ret hle_rf) _ hF
  obtain ⟨mc3, ms3, hmc3, hms3⟩ := up_of (moX3_times n h x1_ x2_ a1 _ e3)
  replace hc := cst_call hc hmc3 hms3
  refine h_callr (va_runV (As := [.ref x2_, .ref a1]) (rest := []) ⟨hx, hb, hml, hown, hts⟩ (mgX3_times l D A h n x1_ x2_ a1 _ e3 mc3 ms3 hmc3 hms3) (cwV 2 hts (lw_V q1059 q1060 q1061 q103 q1062) rfl rfl rfl (by decide +kernel) ⟨Nat.le_of_ble_eq_true rfl, Nat.le_of_ble_eq_true rfl⟩) (h_preV hGr hr hS ec3 (by decide) (q := (RX3, TX3, 2)) rfl _) rfl rfl hl.1 rfl (lv_room (Nat.le_of_ble_eq_true rfl)) dX2_times_9 ⟨(bud hc mm3 hmc hms).1, (bud hc mm3 hmc hms).2⟩) hS (fun rr uu H locs hw hr hS => ?_)
  obtain rfl : u3 = uu := (congrArg Prod.snd hw).symm
  obtain rfl : r3 = rr := (congrArg Prod.fst hw).symm
  have bz := bud_r hc hF hmc hms
  refine W.widen (k := mc) (n := ms) bz.1 bz.2 ?_
  exact W.aret (v := .ref r3) hx hb hret (Or.inl ⟨_, rfl⟩) (Or.inr ⟨_, rfl⟩) (fun t ht hWm => ⟨⟨u3, r3, rfl, trivial, Option.some.inj hF, h_end hGr hr hS ht hWm⟩, hS.F ht⟩) hS.2.2 dX2_times_12

def GX2_remainder_1 (R : Nat → Hp → Nat → Nat → Nat → Int32 → Option (Nat × Hp)) (n : Nat) (h : Hp) (b0 : Nat) (b1 : Nat) (b2 : Nat) (x3 : Int32) : Option (Nat × Hp) := gQ h b0 2 7 (fun x1_ => gC h x1_ 10 (bnd (GJ2_size h x1_) (fun r2 u2 => if r2 ≤ x3 then some (b2, u2) else gQ u2 b0 2 0 (fun x4_ => gQ u2 b0 2 0 (fun x5_ => gQ u2 b0 2 0 (fun x6_ => gC u2 b0 2 (bnd (GX2_vector u2 b0 x3) (fun r7 u7 => gC u7 x6_ 3 (bnd (GX3_product n u7 x6_ b1 r7) (fun r8 u8 => gC u8 b0 2 (bnd (GX2_norm u8 b0 x3) (fun r9 u9 => gC u9 x5_ 3 (bnd (GX3_quotient u9 x5_ r8 r9) (fun r10 u10 => gC u10 b0 2 (bnd (GX2_vector u10 b0 x3) (fun r11 u11 => gC u11 x4_ 3 (bnd (GX3_without n u11 x4_ b2 r10 r11) (fun r12 u12 => R 1 u12 b0 b1 r12 (x3 + 1)))))))))))))))))))
def GX2_remainder_r : Nat → Nat → Hp → Nat → Nat → Nat → Int32 → Option (Nat × Hp)
  | 0 => fun _ _ _ _ _ _ => none
  | n + 1 => fun k => match k with  | _ => GX2_remainder_1 (GX2_remainder_r n) n
def GX2_remainder_0 (R : Nat → Hp → Nat → Nat → Nat → Int32 → Option (Nat × Hp)) (n : Nat) (h : Hp) (a0 : Nat) (a1 : Nat) : Option (Nat × Hp) := R 1 h a0 a1 a1 (0 : Int32)
def GX2_remainder (n : Nat) (h : Hp) (a0 : Nat) (a1 : Nat) : Option (Nat × Hp) := GX2_remainder_0 (GX2_remainder_r n) n h a0 a1
theorem moX2_remainder_r (n : Nat) : (∀ (h : Hp) (b0 : Nat) (b1 : Nat) (b2 : Nat) (x3 : Int32), Mo h (GX2_remainder_r n 1 h b0 b1 b2 x3)) := by
  induction n with
  | zero => exact (fun _ _ _ _ _ => mo_no)
  | succ n ih =>
    have ml1 := ih
    exact (fun h b0 b1 b2 x3 => show Mo h (GX2_remainder_1 (GX2_remainder_r n) n h b0 b1 b2 x3) from by unfold GX2_remainder_1; exact mo_gQ (fun x1_ => mo_gC (mo_bnd (moJ2_size h x1_) hle_rf (fun r2 u2 m2 => mo_ite (mo_ret m2) (mo_gQ (fun x4_ => mo_gQ (fun x5_ => mo_gQ (fun x6_ => mo_gC (mo_bnd (moX2_vector u2 b0 x3) m2 (fun r7 u7 m7 => mo_gC (mo_bnd (moX3_product n u7 x6_ b1 r7) m7 (fun r8 u8 m8 => mo_gC (mo_bnd (moX2_norm u8 b0 x3) m8 (fun r9 u9 m9 => mo_gC (mo_bnd (moX3_quotient u9 x5_ r8 r9) m9 (fun r10 u10 m10 => mo_gC (mo_bnd (moX2_vector u10 b0 x3) m10 (fun r11 u11 m11 => mo_gC (mo_bnd (moX3_without n u11 x4_ b2 r10 r11) m11 (fun r12 u12 m12 => mo_tr m12 (ml1 u12 b0 b1 r12 (x3 + 1))))))))))))))))))))))
theorem moX2_remainder (n : Nat) (h : Hp) (a0 : Nat) (a1 : Nat) : Mo h (GX2_remainder n h a0 a1) := by
  have ml1 := moX2_remainder_r n
  unfold GX2_remainder GX2_remainder_0
  exact mo_tr hle_rf (ml1 h a0 a1 a1 (0 : Int32))
set_option maxHeartbeats 4000000 in
set_option maxRecDepth 100000 in
theorem mgX2_remainder (l : Launch) (D : HD) (A : Nat → Prop) (h : Hp) (n : Nat) (a0 : Nat) (a1 : Nat) (out : Nat × Hp) (hF : GX2_remainder n h a0 a1 = some out) (mc ms : Nat) (hmc : hCc out.2 = hCc h + mc) (hms : hSl out.2 = hSl h + ms) : Met l yX2_remainder (ws_ yX2_remainder cX2_remainder 4 (some (.object "ExactChains$Vector"))) ({ frames := 4, cells := mc, slots := ms, locals := 85 }) (va_Pc [.ref a0, .ref a1] (hW D A h)) (va_Qr (fun _ : Hp => True) (fun u r t => (r, u) = out ∧ hW D A u t) A) mc ms A := by
  refine Met.ofW (cc := cX2_remainder) (maxL := 4) (ret := (some (.object "ExactChains$Vector"))) (by decide +kernel) rfl ?_
  intro p e s m args below meth c s₁ B hml hv
  obtain ⟨rfl, hr, hGr⟩ := hv
  have hx := B.exec
  have hb := B.bytes
  have hret := B.returns
  have hts := atoms_spec (ws := (ws_ yX2_remainder cX2_remainder 4 (some (.object "ExactChains$Vector")))) B.pre
  have hts : ∀ w ∈ lw_all, w.before _ s = true := fun w h => hts w (List.mem_cons_of_mem _ h)
  have hown : s.vm.findClass RX2 = some m.cls := findClass_of_methodNamed B.named
  have hlocks := B.notSynchronized
  have hS : va_S A s.heap s.heap [] := va_S.rf
  have hc : cst h 0 0 h := cst_0
  have hl := lv_entry ([.ref a0, .ref a1]) (n := 4) (Nat.le_of_ble_eq_true rfl)
  rw [lg_entry_eq]
  generalize (lg_sl ([.ref a0, .ref a1]) ++ List.replicate (4 - (lg_sl ([.ref a0, .ref a1])).length) Slot.unset).toArray = ls at hl ⊢
  have hl : lv_has ls 4 [(0, .ref a0), (1, .ref a1)] := hl
  obtain ⟨h0, eh0⟩ : ∃ z, z = h := ⟨_, rfl⟩
  rw [← eh0] at hmc hms
  have loop : ∀ n : Nat, (∀ (h : Hp) (b0 : Nat) (b1 : Nat) (b2 : Nat) (x3 : Int32), GX2_remainder_r n 1 h b0 b1 b2 x3 = some out → ∀ (H : Heap) (locs : List Loc) (cells slots : Nat), cst h0 cells slots h → hR D A h H → va_S A s.heap H locs → ∀ ls : Array Slot, lv_has ls 4 [(0, .ref b0), (1, .ref b1), (2, .ref b2), (3, .int x3)] → W p l e (headSpec (ws_ yX2_remainder cX2_remainder 4 (some (.object "ExactChains$Vector"))) ({ frames := 4, cells := mc, slots := ms, locals := 85 })).room s m ([.ref a0, .ref a1] : List Value).toArray below meth c H locs cells slots (MQ below (va_Qr (fun _ : Hp => True) (fun u r t => (r, u) = out ∧ hW D A u t) A) ([.ref a0, .ref a1] : List Value).toArray s mc ms A) (F0 m 4 ls [])) := by
    intro n
    induction n with
    | zero => exact (fun _ _ _ _ _ h => nomatch h)
    | succ n ih =>
      have lp1 := ih
      have ml1 := moX2_remainder_r n
      intro h b0 b1 b2 x3 hF H locs cells slots hc hr hS ls hl
      replace hF : GX2_remainder_1 (GX2_remainder_r n) n h b0 b1 b2 x3 = some out := hF
      unfold GX2_remainder_1 at hF
      refine lv_iload_n hx hb dX2_remainder_4 rfl (lv_at hl 3 rfl) ?_
      refine lv_aload_n hx hb dX2_remainder_5 rfl (lv_at hl 0 rfl) ?_
      obtain ⟨fs1, x1_, e1, f1, hF⟩ := gQ_s hF
      refine h_get (C := RX2) (T := TX2) (N := 11) hx hb hts in_X2 hown hGr hr e1 (by decide) rfl 7 (by decide) (hts _ q582) (fun _ h9 => h9) f1 dX2_remainder_6 ?_
      obtain ⟨fc2, ec2, hF⟩ := gC_s hF
      obtain ⟨r2, u2, e2, hF⟩ := bnd_s hF
      have mm2 : hle u2 out.2 := (show Mo u2 _ from mo_ite (mo_ret hle_rf) (mo_gQ (fun x4_ => mo_gQ (fun x5_ => mo_gQ (fun x6_ => mo_gC (mo_bnd (moX2_vector u2 b0 x3) hle_rf (fun r7 u7 m7 => mo_gC (mo_bnd (moX3_product n u7 x6_ b1 r7) m7 (fun r8 u8 m8 => mo_gC (mo_bnd (moX2_norm u8 b0 x3) m8 (fun r9 u9 m9 => mo_gC (mo_bnd (moX3_quotient u9 x5_ r8 r9) m9 (fun r10 u10 m10 => mo_gC (mo_bnd (moX2_vector u10 b0 x3) m10 (fun r11 u11 m11 => mo_gC (mo_bnd (moX3_without n u11 x4_ b2 r10 r11) m11 (fun r12 u12 m12 => mo_tr m12 (ml1 u12 b0 b1 r12 (x3 + 1))))))))))))))))))) _ hF
      obtain ⟨mc2, ms2, hmc2, hms2⟩ := up_of (moJ2_size h x1_ _ e2)
      replace hc := cst_call hc hmc2 hms2
      refine h_callFi (va_runF (hGr.K.1 10 _ rfl).2 (As := []) (rest := [.int x3]) ⟨hx, hb, hml, hown, hts⟩ (mgJ2_size l D A h x1_ _ e2 mc2 ms2 hmc2 hms2) (va_cwF 0 hts (lw_app (lw_fi q872 q875 q877 q106) (lw_meth q879)) rfl rfl rfl (fw_5 hGr) (by decide +kernel) ⟨Nat.le_of_ble_eq_true rfl, Nat.le_of_ble_eq_true rfl⟩) (h_preV hGr hr hS ec2 (by decide) (q := (RJ2, TJ2, 3)) rfl _) rfl rfl hl.1 rfl (lv_room (Nat.le_of_ble_eq_true rfl)) dX2_remainder_9 ⟨(bud hc mm2 hmc hms).1, (bud hc mm2 hmc hms).2⟩) hS (fun rr uu H locs hw hr hS => ?_)
      obtain rfl : u2 = uu := (congrArg Prod.snd hw).symm
      obtain rfl : r2 = rr := (congrArg Prod.fst hw).symm
      refine lv_icmp_ge (tgt := 62) hx hb dX2_remainder_14 (by decide) (fun c3 => ?_) (fun c3 => ?_)
      · replace hF := it_t c3 hF
        refine lv_aload_n hx hb dX2_remainder_62 rfl (lv_at hl 2 rfl) ?_
        have bz := bud_r hc hF hmc hms
        refine W.widen (k := mc) (n := ms) bz.1 bz.2 ?_
        exact W.aret (v := .ref b2) hx hb hret (Or.inl ⟨_, rfl⟩) (Or.inr ⟨_, rfl⟩) (fun t ht hWm => ⟨⟨u2, b2, rfl, trivial, Option.some.inj hF, h_end hGr hr hS ht hWm⟩, hS.F ht⟩) hS.2.2 dX2_remainder_63
      · replace hF := it_f c3 hF
        refine lv_aload_n hx hb dX2_remainder_17 rfl (lv_at hl 0 rfl) ?_
        obtain ⟨fs4, x4_, e4, f4, hF⟩ := gQ_s hF
        refine h_get (C := RX2) (T := TX2) (N := 11) hx hb hts in_X2 hown hGr hr e4 (by decide) rfl 0 (by decide) (hts _ q562) (fun _ h9 => h9) f4 dX2_remainder_18 ?_
        refine lv_aload_n hx hb dX2_remainder_21 rfl (lv_at hl 2 rfl) ?_
        refine lv_aload_n hx hb dX2_remainder_22 rfl (lv_at hl 0 rfl) ?_
        obtain ⟨fs5, x5_, e5, f5, hF⟩ := gQ_s hF
        refine h_get (C := RX2) (T := TX2) (N := 11) hx hb hts in_X2 hown hGr hr e5 (by decide) rfl 0 (by decide) (hts _ q562) (fun _ h9 => h9) f5 dX2_remainder_23 ?_
        refine lv_aload_n hx hb dX2_remainder_26 rfl (lv_at hl 0 rfl) ?_
        obtain ⟨fs6, x6_, e6, f6, hF⟩ := gQ_s hF
        refine h_get (C := RX2) (T := TX2) (N := 11) hx hb hts in_X2 hown hGr hr e6 (by decide) rfl 0 (by decide) (hts _ q562) (fun _ h9 => h9) f6 dX2_remainder_27 ?_
        refine lv_aload_n hx hb dX2_remainder_30 rfl (lv_at hl 1 rfl) ?_
        refine lv_aload_n hx hb dX2_remainder_31 rfl (lv_at hl 0 rfl) ?_
        refine lv_iload_n hx hb dX2_remainder_32 rfl (lv_at hl 3 rfl) ?_
        obtain ⟨fc7, ec7, hF⟩ := gC_s hF
        obtain ⟨r7, u7, e7, hF⟩ := bnd_s hF
        have mm7 : hle u7 out.2 := (show Mo u7 _ from mo_gC (mo_bnd (moX3_product n u7 x6_ b1 r7) hle_rf (fun r8 u8 m8 => mo_gC (mo_bnd (moX2_norm u8 b0 x3) m8 (fun r9 u9 m9 => mo_gC (mo_bnd (moX3_quotient u9 x5_ r8 r9) m9 (fun r10 u10 m10 => mo_gC (mo_bnd (moX2_vector u10 b0 x3) m10 (fun r11 u11 m11 => mo_gC (mo_bnd (moX3_without n u11 x4_ b2 r10 r11) m11 (fun r12 u12 m12 => mo_tr m12 (ml1 u12 b0 b1 r12 (x3 + 1))))))))))))) _ hF
        obtain ⟨mc7, ms7, hmc7, hms7⟩ := up_of (moX2_vector u2 b0 x3 _ e7)
        replace hc := cst_call hc hmc7 hms7
        refine h_callr (va_runV (As := [.int x3]) (rest := [.ref b1, .ref x6_, .ref x5_, .ref b2, .ref x4_]) ⟨hx, hb, hml, hown, hts⟩ (mgX2_vector l D A u2 b0 x3 _ e7 mc7 ms7 hmc7 hms7) (cwV 1 hts (lw_V q1013 q1014 q1015 q102 q1016) rfl rfl rfl (by decide +kernel) ⟨Nat.le_of_ble_eq_true rfl, Nat.le_of_ble_eq_true rfl⟩) (h_preV hGr hr hS ec7 (by decide) (q := (RX2, TX2, 11)) rfl _) rfl rfl hl.1 rfl (lv_room (Nat.le_of_ble_eq_true rfl)) dX2_remainder_33 ⟨(bud hc mm7 hmc hms).1, (bud hc mm7 hmc hms).2⟩) hS (fun rr uu H locs hw hr hS => ?_)
        obtain rfl : u7 = uu := (congrArg Prod.snd hw).symm
        obtain rfl : r7 = rr := (congrArg Prod.fst hw).symm
        obtain ⟨fc8, ec8, hF⟩ := gC_s hF
        obtain ⟨r8, u8, e8, hF⟩ := bnd_s hF
        have mm8 : hle u8 out.2 := (show Mo u8 _ from mo_gC (mo_bnd (moX2_norm u8 b0 x3) hle_rf (fun r9 u9 m9 => mo_gC (mo_bnd (moX3_quotient u9 x5_ r8 r9) m9 (fun r10 u10 m10 => mo_gC (mo_bnd (moX2_vector u10 b0 x3) m10 (fun r11 u11 m11 => mo_gC (mo_bnd (moX3_without n u11 x4_ b2 r10 r11) m11 (fun r12 u12 m12 => mo_tr m12 (ml1 u12 b0 b1 r12 (x3 + 1))))))))))) _ hF
        obtain ⟨mc8, ms8, hmc8, hms8⟩ := up_of (moX3_product n u7 x6_ b1 r7 _ e8)
        replace hc := cst_call hc hmc8 hms8
        refine h_calli (va_runV (As := [.ref b1, .ref r7]) (rest := [.ref x5_, .ref b2, .ref x4_]) ⟨hx, hb, hml, hown, hts⟩ (mgX3_product l D A u7 n x6_ b1 r7 _ e8 mc8 ms8 hmc8 hms8) (cwV 2 hts (lw_V q968 q969 q970 q103 q971) rfl rfl rfl (by decide +kernel) ⟨Nat.le_of_ble_eq_true rfl, Nat.le_of_ble_eq_true rfl⟩) (h_preV hGr hr hS ec8 (by decide) (q := (RX3, TX3, 2)) rfl _) rfl rfl hl.1 rfl (lv_room (Nat.le_of_ble_eq_true rfl)) dX2_remainder_36 ⟨(bud hc mm8 hmc hms).1, (bud hc mm8 hmc hms).2⟩) hS (fun rr uu H locs hw hr hS => ?_)
        obtain rfl : u8 = uu := (congrArg Prod.snd hw).symm
        obtain rfl : r8 = rr := (congrArg Prod.fst hw).symm
        refine lv_aload_n hx hb dX2_remainder_39 rfl (lv_at hl 0 rfl) ?_
        refine lv_iload_n hx hb dX2_remainder_40 rfl (lv_at hl 3 rfl) ?_
        obtain ⟨fc9, ec9, hF⟩ := gC_s hF
        obtain ⟨r9, u9, e9, hF⟩ := bnd_s hF
        have mm9 : hle u9 out.2 := (show Mo u9 _ from mo_gC (mo_bnd (moX3_quotient u9 x5_ r8 r9) hle_rf (fun r10 u10 m10 => mo_gC (mo_bnd (moX2_vector u10 b0 x3) m10 (fun r11 u11 m11 => mo_gC (mo_bnd (moX3_without n u11 x4_ b2 r10 r11) m11 (fun r12 u12 m12 => mo_tr m12 (ml1 u12 b0 b1 r12 (x3 + 1))))))))) _ hF
        obtain ⟨mc9, ms9, hmc9, hms9⟩ := up_of (moX2_norm u8 b0 x3 _ e9)
        replace hc := cst_call hc hmc9 hms9
        refine h_calli (va_runV (As := [.int x3]) (rest := [.int r8, .ref x5_, .ref b2, .ref x4_]) ⟨hx, hb, hml, hown, hts⟩ (mgX2_norm l D A u8 b0 x3 _ e9 mc9 ms9 hmc9 hms9) (cwV 1 hts (lw_V q1021 q1022 q1023 q102 q1024) rfl rfl rfl (by decide +kernel) ⟨Nat.le_of_ble_eq_true rfl, Nat.le_of_ble_eq_true rfl⟩) (h_preV hGr hr hS ec9 (by decide) (q := (RX2, TX2, 11)) rfl _) rfl rfl hl.1 rfl (lv_room (Nat.le_of_ble_eq_true rfl)) dX2_remainder_41 ⟨(bud hc mm9 hmc hms).1, (bud hc mm9 hmc hms).2⟩) hS (fun rr uu H locs hw hr hS => ?_)
        obtain rfl : u9 = uu := (congrArg Prod.snd hw).symm
        obtain rfl : r9 = rr := (congrArg Prod.fst hw).symm
        obtain ⟨fc10, ec10, hF⟩ := gC_s hF
        obtain ⟨r10, u10, e10, hF⟩ := bnd_s hF
        have mm10 : hle u10 out.2 := (show Mo u10 _ from mo_gC (mo_bnd (moX2_vector u10 b0 x3) hle_rf (fun r11 u11 m11 => mo_gC (mo_bnd (moX3_without n u11 x4_ b2 r10 r11) m11 (fun r12 u12 m12 => mo_tr m12 (ml1 u12 b0 b1 r12 (x3 + 1))))))) _ hF
        obtain ⟨mc10, ms10, hmc10, hms10⟩ := up_of (moX3_quotient u9 x5_ r8 r9 _ e10)
        replace hc := cst_call hc hmc10 hms10
        refine h_calli (va_runV (As := [.int r8, .int r9]) (rest := [.ref b2, .ref x4_]) ⟨hx, hb, hml, hown, hts⟩ (mgX3_quotient l D A u9 x5_ r8 r9 _ e10 mc10 ms10 hmc10 hms10) (cwV 2 hts (lw_V q1029 q1030 q1031 q103 q1032) rfl rfl rfl (by decide +kernel) ⟨Nat.le_of_ble_eq_true rfl, Nat.le_of_ble_eq_true rfl⟩) (h_preV hGr hr hS ec10 (by decide) (q := (RX3, TX3, 2)) rfl _) rfl rfl hl.1 rfl (lv_room (Nat.le_of_ble_eq_true rfl)) dX2_remainder_44 ⟨(bud hc mm10 hmc hms).1, (bud hc mm10 hmc hms).2⟩) hS (fun rr uu H locs hw hr hS => ?_)
        obtain rfl : u10 = uu := (congrArg Prod.snd hw).symm
        obtain rfl : r10 = rr := (congrArg Prod.fst hw).symm
        refine lv_aload_n hx hb dX2_remainder_47 rfl (lv_at hl 0 rfl) ?_
        refine lv_iload_n hx hb dX2_remainder_48 rfl (lv_at hl 3 rfl) ?_
        obtain ⟨fc11, ec11, hF⟩ := gC_s hF
        obtain ⟨r11, u11, e11, hF⟩ := bnd_s hF
        have mm11 : hle u11 out.2 := (show Mo u11 _ from mo_gC (mo_bnd (moX3_without n u11 x4_ b2 r10 r11) hle_rf (fun r12 u12 m12 => mo_tr m12 (ml1 u12 b0 b1 r12 (x3 + 1))))) _ hF
        obtain ⟨mc11, ms11, hmc11, hms11⟩ := up_of (moX2_vector u10 b0 x3 _ e11)
        replace hc := cst_call hc hmc11 hms11
        refine h_callr (va_runV (As := [.int x3]) (rest := [.int r10, .ref b2, .ref x4_]) ⟨hx, hb, hml, hown, hts⟩ (mgX2_vector l D A u10 b0 x3 _ e11 mc11 ms11 hmc11 hms11) (cwV 1 hts (lw_V q1013 q1014 q1015 q102 q1016) rfl rfl rfl (by decide +kernel) ⟨Nat.le_of_ble_eq_true rfl, Nat.le_of_ble_eq_true rfl⟩) (h_preV hGr hr hS ec11 (by decide) (q := (RX2, TX2, 11)) rfl _) rfl rfl hl.1 rfl (lv_room (Nat.le_of_ble_eq_true rfl)) dX2_remainder_49 ⟨(bud hc mm11 hmc hms).1, (bud hc mm11 hmc hms).2⟩) hS (fun rr uu H locs hw hr hS => ?_)
        obtain rfl : u11 = uu := (congrArg Prod.snd hw).symm
        obtain rfl : r11 = rr := (congrArg Prod.fst hw).symm
        obtain ⟨fc12, ec12, hF⟩ := gC_s hF
        obtain ⟨r12, u12, e12, hF⟩ := bnd_s hF
        have mm12 : hle u12 out.2 := (show Mo u12 _ from mo_tr hle_rf (ml1 u12 b0 b1 r12 (x3 + 1))) _ hF
        obtain ⟨mc12, ms12, hmc12, hms12⟩ := up_of (moX3_without n u11 x4_ b2 r10 r11 _ e12)
        replace hc := cst_call hc hmc12 hms12
        refine h_callr (va_runV (As := [.ref b2, .int r10, .ref r11]) (rest := []) ⟨hx, hb, hml, hown, hts⟩ (mgX3_without l D A u11 n x4_ b2 r10 r11 _ e12 mc12 ms12 hmc12 hms12) (cwV 3 hts (lw_V q1033 q1034 q1035 q103 q1036) rfl rfl rfl (by decide +kernel) ⟨Nat.le_of_ble_eq_true rfl, Nat.le_of_ble_eq_true rfl⟩) (h_preV hGr hr hS ec12 (by decide) (q := (RX3, TX3, 2)) rfl _) rfl rfl hl.1 rfl (lv_room (Nat.le_of_ble_eq_true rfl)) dX2_remainder_52 ⟨(bud hc mm12 hmc hms).1, (bud hc mm12 hmc hms).2⟩) hS (fun rr uu H locs hw hr hS => ?_)
        obtain rfl : u12 = uu := (congrArg Prod.snd hw).symm
        obtain rfl : r12 = rr := (congrArg Prod.fst hw).symm
        refine lv_astore_n (lv' := [(2, .ref r12), (0, .ref b0), (1, .ref b1), (3, .int x3)]) hx hb dX2_remainder_55 rfl hl (by decide) rfl (fun ls hl => ?_)
        refine lv_iinc (v := (x3 + 1)) (lv' := [(3, .int (x3 + 1)), (2, .ref r12), (0, .ref b0), (1, .ref b1)]) hx hb dX2_remainder_56 hl (k := 3) rfl rfl (by decide) rfl (fun ls hl => ?_)
        refine lv_goto (tgt := 4) hx hb dX2_remainder_59 (by decide) ?_
        exact lp1 u12 b0 b1 r12 (x3 + 1) hF _ _ _ _ hc hr hS ls (lv_sub hl [2, 3, 1, 0] rfl)
  have lp1 := loop n
  have ml1 := moX2_remainder_r n
  have hc : cst h0 0 0 h := by rw [eh0]; exact cst_0
  unfold GX2_remainder GX2_remainder_0 at hF
  refine lv_aload_n hx hb dX2_remainder_0 rfl (lv_at hl 1 rfl) ?_
  refine lv_astore_n (lv' := [(2, .ref a1), (0, .ref a0), (1, .ref a1)]) hx hb dX2_remainder_1 rfl hl (by decide) rfl (fun ls hl => ?_)
  refine lv_iconst (v := 0) hx hb dX2_remainder_2 (by decide) ?_
  refine lv_istore_n (lv' := [(3, .int 0), (2, .ref a1), (0, .ref a0), (1, .ref a1)]) hx hb dX2_remainder_3 rfl hl (by decide) rfl (fun ls hl => ?_)
  exact lp1 h a0 a1 a1 (0 : Int32) hF _ _ _ _ hc hr hS ls (lv_sub hl [2, 3, 1, 0] rfl)

def GX2_latest (h : Hp) (a0 : Nat) : Option (Nat × Hp) := gQ h a0 2 8 (fun x1_ => gQ h a0 2 8 (fun x2_ => gC h x2_ 10 (bnd (GJ2_size h x2_) (fun r3 u3 => gC u3 x1_ 10 (bnd (GJ2_get u3 x1_ (r3 - 1)) (fun r4 u4 => gC u4 r4 7 (some (r4, u4))))))))
theorem moX2_latest (h : Hp) (a0 : Nat) : Mo h (GX2_latest h a0) := by
  unfold GX2_latest
  exact mo_gQ (fun x1_ => mo_gQ (fun x2_ => mo_gC (mo_bnd (moJ2_size h x2_) hle_rf (fun r3 u3 m3 => mo_gC (mo_bnd (moJ2_get u3 x1_ (r3 - 1)) m3 (fun r4 u4 m4 => mo_gC (mo_ret m4)))))))
set_option maxHeartbeats 4000000 in
set_option maxRecDepth 100000 in
theorem mgX2_latest (l : Launch) (D : HD) (A : Nat → Prop) (h : Hp) (a0 : Nat) (out : Nat × Hp) (hF : GX2_latest h a0 = some out) (mc ms : Nat) (hmc : hCc out.2 = hCc h + mc) (hms : hSl out.2 = hSl h + ms) : Met l yX2_latest (ws_ yX2_latest cX2_latest 1 (some (.object "ExactChains$Chain"))) ({ frames := 3, cells := mc, slots := ms, locals := 64 }) (va_Pc [.ref a0] (hW D A h)) (va_Qr (fun _ : Hp => True) (fun u r t => (r, u) = out ∧ hW D A u t) A) mc ms A := by
  refine Met.ofW (cc := cX2_latest) (maxL := 1) (ret := (some (.object "ExactChains$Chain"))) (by decide +kernel) rfl ?_
  intro p e s m args below meth c s₁ B hml hv
  obtain ⟨rfl, hr, hGr⟩ := hv
  have hx := B.exec
  have hb := B.bytes
  have hret := B.returns
  have hts := atoms_spec (ws := (ws_ yX2_latest cX2_latest 1 (some (.object "ExactChains$Chain")))) B.pre
  have hts : ∀ w ∈ lw_all, w.before _ s = true := fun w h => hts w (List.mem_cons_of_mem _ h)
  have hown : s.vm.findClass RX2 = some m.cls := findClass_of_methodNamed B.named
  have hlocks := B.notSynchronized
  have hS : va_S A s.heap s.heap [] := va_S.rf
  have hc : cst h 0 0 h := cst_0
  have hl := lv_entry ([.ref a0]) (n := 1) (Nat.le_of_ble_eq_true rfl)
  rw [lg_entry_eq]
  generalize (lg_sl ([.ref a0]) ++ List.replicate (1 - (lg_sl ([.ref a0])).length) Slot.unset).toArray = ls at hl ⊢
  have hl : lv_has ls 1 [(0, .ref a0)] := hl
  unfold GX2_latest at hF
  refine lv_aload_n hx hb dX2_latest_0 rfl (lv_at hl 0 rfl) ?_
  obtain ⟨fs1, x1_, e1, f1, hF⟩ := gQ_s hF
  refine h_get (C := RX2) (T := TX2) (N := 11) hx hb hts in_X2 hown hGr hr e1 (by decide) rfl 8 (by decide) (hts _ q584) (fun _ h9 => h9) f1 dX2_latest_1 ?_
  refine lv_aload_n hx hb dX2_latest_4 rfl (lv_at hl 0 rfl) ?_
  obtain ⟨fs2, x2_, e2, f2, hF⟩ := gQ_s hF
  refine h_get (C := RX2) (T := TX2) (N := 11) hx hb hts in_X2 hown hGr hr e2 (by decide) rfl 8 (by decide) (hts _ q584) (fun _ h9 => h9) f2 dX2_latest_5 ?_
  obtain ⟨fc3, ec3, hF⟩ := gC_s hF
  obtain ⟨r3, u3, e3, hF⟩ := bnd_s hF
  have mm3 : hle u3 out.2 := (show Mo u3 _ from mo_gC (mo_bnd (moJ2_get u3 x1_ (r3 - 1)) hle_rf (fun r4 u4 m4 => mo_gC (mo_ret m4)))) _ hF
  obtain ⟨mc3, ms3, hmc3, hms3⟩ := up_of (moJ2_size h x2_ _ e3)
  replace hc := cst_call hc hmc3 hms3
  refine h_callFi (va_runF (hGr.K.1 10 _ rfl).2 (As := []) (rest := [.ref x1_]) ⟨hx, hb, hml, hown, hts⟩ (mgJ2_size l D A h x2_ _ e3 mc3 ms3 hmc3 hms3) (va_cwF 0 hts (lw_app (lw_fi q872 q875 q877 q106) (lw_meth q879)) rfl rfl rfl (fw_5 hGr) (by decide +kernel) ⟨Nat.le_of_ble_eq_true rfl, Nat.le_of_ble_eq_true rfl⟩) (h_preV hGr hr hS ec3 (by decide) (q := (RJ2, TJ2, 3)) rfl _) rfl rfl hl.1 rfl (lv_room (Nat.le_of_ble_eq_true rfl)) dX2_latest_8 ⟨(bud hc mm3 hmc hms).1, (bud hc mm3 hmc hms).2⟩) hS (fun rr uu H locs hw hr hS => ?_)
  obtain rfl : u3 = uu := (congrArg Prod.snd hw).symm
  obtain rfl : r3 = rr := (congrArg Prod.fst hw).symm
  refine lv_iconst (v := 1) hx hb dX2_latest_13 (by decide) ?_
  refine lv_isub hx hb dX2_latest_14 ?_
  obtain ⟨fc4, ec4, hF⟩ := gC_s hF
  obtain ⟨r4, u4, e4, hF⟩ := bnd_s hF
  have mm4 : hle u4 out.2 := (show Mo u4 _ from mo_gC (mo_ret hle_rf)) _ hF
  obtain ⟨mc4, ms4, hmc4, hms4⟩ := up_of (moJ2_get u3 x1_ (r3 - 1) _ e4)
  replace hc := cst_call hc hmc4 hms4
  refine h_callFr (va_runF (hGr.K.1 10 _ rfl).2 (As := [.int (r3 - 1)]) (rest := []) ⟨hx, hb, hml, hown, hts⟩ (mgJ2_get l D A u3 x1_ (r3 - 1) _ e4 mc4 ms4 hmc4 hms4) (va_cwF 1 hts (lw_app (lw_fi q931 q934 q936 q106) (lw_meth q938)) rfl rfl rfl (fw_7 hGr) (by decide +kernel) ⟨Nat.le_of_ble_eq_true rfl, Nat.le_of_ble_eq_true rfl⟩) (h_preV hGr hr hS ec4 (by decide) (q := (RJ2, TJ2, 3)) rfl _) rfl rfl hl.1 rfl (lv_room (Nat.le_of_ble_eq_true rfl)) dX2_latest_15 ⟨(bud hc mm4 hmc hms).1, (bud hc mm4 hmc hms).2⟩) hS (fun rr uu H locs hw hr hS => ?_)
  obtain rfl : u4 = uu := (congrArg Prod.snd hw).symm
  obtain rfl : r4 = rr := (congrArg Prod.fst hw).symm
  obtain ⟨fs5, e5, hF⟩ := gC_s hF
  refine h_cast hx hb hown (hts _ q869) hGr hr e5 (by decide) (T := TX8) (N := 3) rfl dX2_latest_20 ?_
  have bz := bud_r hc hF hmc hms
  refine W.widen (k := mc) (n := ms) bz.1 bz.2 ?_
  exact W.aret (v := .ref r4) hx hb hret (Or.inl ⟨_, rfl⟩) (Or.inr ⟨_, rfl⟩) (fun t ht hWm => ⟨⟨u4, r4, rfl, trivial, Option.some.inj hF, h_end hGr hr hS ht hWm⟩, hS.F ht⟩) hS.2.2 dX2_latest_23

def GX2_replaces (h : Hp) (a0 : Nat) (a1 : Nat) : Option (Int32 × Hp) := gQ h a0 2 8 (fun x1_ => gQ h a0 2 8 (fun x2_ => gC h x2_ 10 (bnd (GJ2_size h x2_) (fun r3 u3 => gC u3 x1_ 10 (bnd (GJ2_set u3 x1_ (r3 - 1) a1) (fun r4 u4 => gC u4 r4 7 (some (0, u4))))))))
theorem moX2_replaces (h : Hp) (a0 : Nat) (a1 : Nat) : Mo h (GX2_replaces h a0 a1) := by
  unfold GX2_replaces
  exact mo_gQ (fun x1_ => mo_gQ (fun x2_ => mo_gC (mo_bnd (moJ2_size h x2_) hle_rf (fun r3 u3 m3 => mo_gC (mo_bnd (moJ2_set u3 x1_ (r3 - 1) a1) m3 (fun r4 u4 m4 => mo_gC (mo_ret m4)))))))
set_option maxHeartbeats 4000000 in
set_option maxRecDepth 100000 in
theorem mgX2_replaces (l : Launch) (D : HD) (A : Nat → Prop) (h : Hp) (a0 : Nat) (a1 : Nat) (out : Int32 × Hp) (hF : GX2_replaces h a0 a1 = some out) (mc ms : Nat) (hmc : hCc out.2 = hCc h + mc) (hms : hSl out.2 = hSl h + ms) : Met l yX2_replaces (ws_ yX2_replaces cX2_replaces 3 none) ({ frames := 3, cells := mc, slots := ms, locals := 66 }) (va_Pc [.ref a0, .ref a1] (hW D A h)) (va_Qv (fun u => (0, u) = out) (hW D A) A) mc ms A := by
  refine Met.ofW (cc := cX2_replaces) (maxL := 3) (ret := none) (by decide +kernel) rfl ?_
  intro p e s m args below meth c s₁ B hml hv
  obtain ⟨rfl, hr, hGr⟩ := hv
  have hx := B.exec
  have hb := B.bytes
  have hret := B.returns
  have hts := atoms_spec (ws := (ws_ yX2_replaces cX2_replaces 3 none)) B.pre
  have hts : ∀ w ∈ lw_all, w.before _ s = true := fun w h => hts w (List.mem_cons_of_mem _ h)
  have hown : s.vm.findClass RX2 = some m.cls := findClass_of_methodNamed B.named
  have hlocks := B.notSynchronized
  have hS : va_S A s.heap s.heap [] := va_S.rf
  have hc : cst h 0 0 h := cst_0
  have hl := lv_entry ([.ref a0, .ref a1]) (n := 3) (Nat.le_of_ble_eq_true rfl)
  rw [lg_entry_eq]
  generalize (lg_sl ([.ref a0, .ref a1]) ++ List.replicate (3 - (lg_sl ([.ref a0, .ref a1])).length) Slot.unset).toArray = ls at hl ⊢
  have hl : lv_has ls 3 [(0, .ref a0), (1, .ref a1)] := hl
  unfold GX2_replaces at hF
  refine lv_aload_n hx hb dX2_replaces_0 rfl (lv_at hl 0 rfl) ?_
  obtain ⟨fs1, x1_, e1, f1, hF⟩ := gQ_s hF
  refine h_get (C := RX2) (T := TX2) (N := 11) hx hb hts in_X2 hown hGr hr e1 (by decide) rfl 8 (by decide) (hts _ q584) (fun _ h9 => h9) f1 dX2_replaces_1 ?_
  refine lv_aload_n hx hb dX2_replaces_4 rfl (lv_at hl 0 rfl) ?_
  obtain ⟨fs2, x2_, e2, f2, hF⟩ := gQ_s hF
  refine h_get (C := RX2) (T := TX2) (N := 11) hx hb hts in_X2 hown hGr hr e2 (by decide) rfl 8 (by decide) (hts _ q584) (fun _ h9 => h9) f2 dX2_replaces_5 ?_
  obtain ⟨fc3, ec3, hF⟩ := gC_s hF
  obtain ⟨r3, u3, e3, hF⟩ := bnd_s hF
  have mm3 : hle u3 out.2 := (show Mo u3 _ from mo_gC (mo_bnd (moJ2_set u3 x1_ (r3 - 1) a1) hle_rf (fun r4 u4 m4 => mo_gC (mo_ret m4)))) _ hF
  obtain ⟨mc3, ms3, hmc3, hms3⟩ := up_of (moJ2_size h x2_ _ e3)
  replace hc := cst_call hc hmc3 hms3
  refine h_callFi (va_runF (hGr.K.1 10 _ rfl).2 (As := []) (rest := [.ref x1_]) ⟨hx, hb, hml, hown, hts⟩ (mgJ2_size l D A h x2_ _ e3 mc3 ms3 hmc3 hms3) (va_cwF 0 hts (lw_app (lw_fi q872 q875 q877 q106) (lw_meth q879)) rfl rfl rfl (fw_5 hGr) (by decide +kernel) ⟨Nat.le_of_ble_eq_true rfl, Nat.le_of_ble_eq_true rfl⟩) (h_preV hGr hr hS ec3 (by decide) (q := (RJ2, TJ2, 3)) rfl _) rfl rfl hl.1 rfl (lv_room (Nat.le_of_ble_eq_true rfl)) dX2_replaces_8 ⟨(bud hc mm3 hmc hms).1, (bud hc mm3 hmc hms).2⟩) hS (fun rr uu H locs hw hr hS => ?_)
  obtain rfl : u3 = uu := (congrArg Prod.snd hw).symm
  obtain rfl : r3 = rr := (congrArg Prod.fst hw).symm
  refine lv_iconst (v := 1) hx hb dX2_replaces_13 (by decide) ?_
  refine lv_isub hx hb dX2_replaces_14 ?_
  refine lv_aload_n hx hb dX2_replaces_15 rfl (lv_at hl 1 rfl) ?_
  obtain ⟨fc4, ec4, hF⟩ := gC_s hF
  obtain ⟨r4, u4, e4, hF⟩ := bnd_s hF
  have mm4 : hle u4 out.2 := (show Mo u4 _ from mo_gC (mo_ret hle_rf)) _ hF
  obtain ⟨mc4, ms4, hmc4, hms4⟩ := up_of (moJ2_set u3 x1_ (r3 - 1) a1 _ e4)
  replace hc := cst_call hc hmc4 hms4
  refine h_callFr (va_runF (hGr.K.1 10 _ rfl).2 (As := [.int (r3 - 1), .ref a1]) (rest := []) ⟨hx, hb, hml, hown, hts⟩ (mgJ2_set l D A u3 x1_ (r3 - 1) a1 _ e4 mc4 ms4 hmc4 hms4) (va_cwF 2 hts (lw_app (lw_fi q960 q963 q965 q106) (lw_meth q967)) rfl rfl rfl (fw_8 hGr) (by decide +kernel) ⟨Nat.le_of_ble_eq_true rfl, Nat.le_of_ble_eq_true rfl⟩) (h_preV hGr hr hS ec4 (by decide) (q := (RJ2, TJ2, 3)) rfl _) rfl rfl hl.1 rfl (lv_room (Nat.le_of_ble_eq_true rfl)) dX2_replaces_16 ⟨(bud hc mm4 hmc hms).1, (bud hc mm4 hmc hms).2⟩) hS (fun rr uu H locs hw hr hS => ?_)
  obtain rfl : u4 = uu := (congrArg Prod.snd hw).symm
  obtain rfl : r4 = rr := (congrArg Prod.fst hw).symm
  obtain ⟨fs5, e5, hF⟩ := gC_s hF
  refine h_cast hx hb hown (hts _ q869) hGr hr e5 (by decide) (T := TX8) (N := 3) rfl dX2_replaces_21 ?_
  refine lv_astore_n (lv' := [(2, .ref r4), (0, .ref a0), (1, .ref a1)]) hx hb dX2_replaces_24 rfl hl (by decide) rfl (fun ls hl => ?_)
  have bz := bud_r hc hF hmc hms
  refine W.widen (k := mc) (n := ms) bz.1 bz.2 ?_
  exact W.vret hx hb hret (fun t ht hWm => ⟨⟨u4, rfl, Option.some.inj hF, h_end hGr hr hS ht hWm⟩, hS.F ht⟩) hS.2.2 dX2_replaces_25

def GX2_begins (h : Hp) (a0 : Nat) : Option (Int32 × Hp) := gQ h a0 2 8 (fun x1_ => nW h 7 [.int 0, .int 0, .int 0] 3 (fun a2_ h2 => gQ h2 a0 2 7 (fun x3_ => gC h2 x3_ 10 (bnd (GJ2_size h2 x3_) (fun r4 u4 => bnd (GX8_init u4 a2_ r4 (0 : Int32) (0 : Int32)) (fun r5 u5 => gC u5 x1_ 10 (bnd (GJ2_add u5 x1_ a2_) (fun r6 u6 => some (0, u6)))))))))
theorem moX2_begins (h : Hp) (a0 : Nat) : Mo h (GX2_begins h a0) := by
  unfold GX2_begins
  exact mo_gQ (fun x1_ => mo_nW hle_rf (fun a2_ h2 m2 => mo_gQ (fun x3_ => mo_gC (mo_bnd (moJ2_size h2 x3_) m2 (fun r4 u4 m4 => mo_bnd (moX8_init u4 a2_ r4 (0 : Int32) (0 : Int32)) m4 (fun r5 u5 m5 => mo_gC (mo_bnd (moJ2_add u5 x1_ a2_) m5 (fun r6 u6 m6 => mo_ret m6))))))))
set_option maxHeartbeats 4000000 in
set_option maxRecDepth 100000 in
theorem mgX2_begins (l : Launch) (D : HD) (A : Nat → Prop) (h : Hp) (a0 : Nat) (out : Int32 × Hp) (hF : GX2_begins h a0 = some out) (mc ms : Nat) (hmc : hCc out.2 = hCc h + mc) (hms : hSl out.2 = hSl h + ms) : Met l yX2_begins (ws_ yX2_begins cX2_begins 1 none) ({ frames := 7, cells := mc, slots := ms, locals := 211 }) (va_Pc [.ref a0] (hW D A h)) (va_Qv (fun u => (0, u) = out) (hW D A) A) mc ms A := by
  refine Met.ofW (cc := cX2_begins) (maxL := 1) (ret := none) (by decide +kernel) rfl ?_
  intro p e s m args below meth c s₁ B hml hv
  obtain ⟨rfl, hr, hGr⟩ := hv
  have hx := B.exec
  have hb := B.bytes
  have hret := B.returns
  have hts := atoms_spec (ws := (ws_ yX2_begins cX2_begins 1 none)) B.pre
  have hts : ∀ w ∈ lw_all, w.before _ s = true := fun w h => hts w (List.mem_cons_of_mem _ h)
  have hown : s.vm.findClass RX2 = some m.cls := findClass_of_methodNamed B.named
  have hlocks := B.notSynchronized
  have hS : va_S A s.heap s.heap [] := va_S.rf
  have hc : cst h 0 0 h := cst_0
  have hl := lv_entry ([.ref a0]) (n := 1) (Nat.le_of_ble_eq_true rfl)
  rw [lg_entry_eq]
  generalize (lg_sl ([.ref a0]) ++ List.replicate (1 - (lg_sl ([.ref a0])).length) Slot.unset).toArray = ls at hl ⊢
  have hl : lv_has ls 1 [(0, .ref a0)] := hl
  unfold GX2_begins at hF
  refine lv_aload_n hx hb dX2_begins_0 rfl (lv_at hl 0 rfl) ?_
  obtain ⟨fs1, x1_, e1, f1, hF⟩ := gQ_s hF
  refine h_get (C := RX2) (T := TX2) (N := 11) hx hb hts in_X2 hown hGr hr e1 (by decide) rfl 8 (by decide) (hts _ q584) (fun _ h9 => h9) f1 dX2_begins_1 ?_
  obtain ⟨a2_, h2, ea2, eh2, hF⟩ := nW_s hF
  have mm2 : hle h2 out.2 := (show Mo h2 _ from mo_gQ (fun x3_ => mo_gC (mo_bnd (moJ2_size h2 x3_) hle_rf (fun r4 u4 m4 => mo_bnd (moX8_init u4 a2_ r4 (0 : Int32) (0 : Int32)) m4 (fun r5 u5 m5 => mo_gC (mo_bnd (moJ2_add u5 x1_ a2_) m5 (fun r6 u6 m6 => mo_ret m6))))))) _ hF
  replace hc := cst_new hc eh2
  refine h_new (C := RX8) (T := TX8) (N := 3) hx hb hts in_X8 tyX8 tyX8_ok hown (hts _ q869) (hts _ q870) (hts _ q139) hGr hr hS (ci := 7) (by decide) rfl (fs := [.int 0, .int 0, .int 0]) (fun j hj => by match j, hj with | 0, _ => rfl | 1, _ => rfl | 2, _ => rfl | j + 3, hj => omega) (bud hc mm2 hmc hms).1 (bud hc mm2 hmc hms).2 dX2_begins_4 (fun H hr hS => ?_)
  rw [← eh2] at hr
  rw [← ea2]
  refine lv_dup hx hb dX2_begins_7 rfl ?_
  refine lv_aload_n hx hb dX2_begins_8 rfl (lv_at hl 0 rfl) ?_
  obtain ⟨fs3, x3_, e3, f3, hF⟩ := gQ_s hF
  refine h_get (C := RX2) (T := TX2) (N := 11) hx hb hts in_X2 hown hGr hr e3 (by decide) rfl 7 (by decide) (hts _ q582) (fun _ h9 => h9) f3 dX2_begins_9 ?_
  obtain ⟨fc4, ec4, hF⟩ := gC_s hF
  obtain ⟨r4, u4, e4, hF⟩ := bnd_s hF
  have mm4 : hle u4 out.2 := (show Mo u4 _ from mo_bnd (moX8_init u4 a2_ r4 (0 : Int32) (0 : Int32)) hle_rf (fun r5 u5 m5 => mo_gC (mo_bnd (moJ2_add u5 x1_ a2_) m5 (fun r6 u6 m6 => mo_ret m6)))) _ hF
  obtain ⟨mc4, ms4, hmc4, hms4⟩ := up_of (moJ2_size h2 x3_ _ e4)
  replace hc := cst_call hc hmc4 hms4
  refine h_callFi (va_runF (hGr.K.1 10 _ rfl).2 (As := []) (rest := [.ref a2_, .ref a2_, .ref x1_]) ⟨hx, hb, hml, hown, hts⟩ (mgJ2_size l D A h2 x3_ _ e4 mc4 ms4 hmc4 hms4) (va_cwF 0 hts (lw_app (lw_fi q872 q875 q877 q106) (lw_meth q879)) rfl rfl rfl (fw_5 hGr) (by decide +kernel) ⟨Nat.le_of_ble_eq_true rfl, Nat.le_of_ble_eq_true rfl⟩) (h_preV hGr hr hS ec4 (by decide) (q := (RJ2, TJ2, 3)) rfl _) rfl rfl hl.1 rfl (lv_room (Nat.le_of_ble_eq_true rfl)) dX2_begins_12 ⟨(bud hc mm4 hmc hms).1, (bud hc mm4 hmc hms).2⟩) hS (fun rr uu H locs hw hr hS => ?_)
  obtain rfl : u4 = uu := (congrArg Prod.snd hw).symm
  obtain rfl : r4 = rr := (congrArg Prod.fst hw).symm
  refine lv_iconst (v := 0) hx hb dX2_begins_17 (by decide) ?_
  refine lv_iconst (v := 0) hx hb dX2_begins_18 (by decide) ?_
  obtain ⟨r5, u5, e5, hF⟩ := bnd_s hF
  have mm5 : hle u5 out.2 := (show Mo u5 _ from mo_gC (mo_bnd (moJ2_add u5 x1_ a2_) hle_rf (fun r6 u6 m6 => mo_ret m6))) _ hF
  obtain ⟨mc5, ms5, hmc5, hms5⟩ := up_of (moX8_init u4 a2_ r4 (0 : Int32) (0 : Int32) _ e5)
  replace hc := cst_call hc hmc5 hms5
  refine h_callv (va_runIN (As := [.int r4, .int 0, .int 0]) (rest := [.ref a2_, .ref x1_]) ⟨hx, hb, hml, hown, hts⟩ (mgX8_init l D A u4 a2_ r4 (0 : Int32) (0 : Int32) _ e5 mc5 ms5 hmc5 hms5) (⟨va_cnB 3 hts (lw_meth q882) rfl rfl rfl (hGr.nw q880 rfl) (hts _ q139) (by decide +kernel) ⟨Nat.le_of_ble_eq_true rfl, Nat.le_of_ble_eq_true rfl⟩, rfl, (hts _ q881)⟩) (h_preS hGr hr hS _) rfl rfl hl.1 rfl (lv_room (Nat.le_of_ble_eq_true rfl)) dX2_begins_19 ⟨(bud hc mm5 hmc hms).1, (bud hc mm5 hmc hms).2⟩) hS (fun uu H locs hw hr hS => ?_)
  obtain rfl : u5 = uu := (congrArg Prod.snd hw).symm
  obtain ⟨fc6, ec6, hF⟩ := gC_s hF
  obtain ⟨r6, u6, e6, hF⟩ := bnd_s hF
  have mm6 : hle u6 out.2 := (show Mo u6 _ from mo_ret hle_rf) _ hF
  obtain ⟨mc6, ms6, hmc6, hms6⟩ := up_of (moJ2_add u5 x1_ a2_ _ e6)
  replace hc := cst_call hc hmc6 hms6
  refine h_callFi (va_runF (hGr.K.1 10 _ rfl).2 (As := [.ref a2_]) (rest := []) ⟨hx, hb, hml, hown, hts⟩ (mgJ2_add l D A u5 x1_ a2_ _ e6 mc6 ms6 hmc6 hms6) (va_cwF 1 hts (lw_app (lw_fi q898 q901 q903 q106) (lw_meth q905)) rfl rfl rfl (fw_6 hGr) (by decide +kernel) ⟨Nat.le_of_ble_eq_true rfl, Nat.le_of_ble_eq_true rfl⟩) (h_preV hGr hr hS ec6 (by decide) (q := (RJ2, TJ2, 3)) rfl _) rfl rfl hl.1 rfl (lv_room (Nat.le_of_ble_eq_true rfl)) dX2_begins_22 ⟨(bud hc mm6 hmc hms).1, (bud hc mm6 hmc hms).2⟩) hS (fun rr uu H locs hw hr hS => ?_)
  obtain rfl : u6 = uu := (congrArg Prod.snd hw).symm
  obtain rfl : r6 = rr := (congrArg Prod.fst hw).symm
  refine lv_pop hx hb dX2_begins_27 rfl ?_
  have bz := bud_r hc hF hmc hms
  refine W.widen (k := mc) (n := ms) bz.1 bz.2 ?_
  exact W.vret hx hb hret (fun t ht hWm => ⟨⟨u6, rfl, Option.some.inj hF, h_end hGr hr hS ht hWm⟩, hS.F ht⟩) hS.2.2 dX2_begins_28

def GX2_candidate (n : Nat) (h : Hp) (a0 : Nat) : Option (Nat × Hp) := gQ h a0 2 7 (fun x1_ => gC h x1_ 10 (bnd (GJ2_size h x1_) (fun r2 u2 => gC u2 a0 2 (bnd (GX2_vector u2 a0 (r2 - 1)) (fun r3 u3 => gC u3 a0 2 (bnd (GX2_times n u3 a0 r3) (fun r4 u4 => gI u4 a0 2 6 (fun x5_ => if x5_ = 0 then gQ u4 a0 2 0 (fun x7_ => gQ u4 a0 2 0 (fun x8_ => gQ u4 a0 2 0 (fun x9_ => gC u4 x9_ 3 (bnd (GX3_product n u4 x9_ r4 r3) (fun r10 u10 => gC u10 a0 2 (bnd (GX2_norm u10 a0 (r2 - 1)) (fun r11 u11 => gC u11 x8_ 3 (bnd (GX3_quotient u11 x8_ r10 r11) (fun r12 u12 => gC u12 x7_ 3 (bnd (GX3_without n u12 x7_ r4 r12 r3) (fun r13 u13 => gC u13 a0 2 (bnd (GX2_latest u13 a0) (fun r14 u14 => gC u14 r14 7 (bnd (GX8_many u14 r14) (fun r15 u15 => if r15 = 1 then some (r13, u15) else gQ u15 a0 2 0 (fun x17_ => gQ u15 a0 2 0 (fun x18_ => gC u15 a0 2 (bnd (GX2_norm u15 a0 (r2 - 1)) (fun r19 u19 => gC u19 a0 2 (bnd (GX2_norm u19 a0 ((r2 - 1) - 1)) (fun r20 u20 => gC u20 x18_ 3 (bnd (GX3_quotient u20 x18_ r19 r20) (fun r21 u21 => gC u21 a0 2 (bnd (GX2_vector u21 a0 ((r2 - 1) - 1)) (fun r22 u22 => gC u22 x17_ 3 (bnd (GX3_without n u22 x17_ r13 r21 r22) (fun r23 u23 => some (r23, u23)))))))))))))))))))))))))))) else gC u4 a0 2 (bnd (GX2_remainder n u4 a0 r4) (fun r24 u24 => some (r24, u24)))))))))))
theorem moX2_candidate (n : Nat) (h : Hp) (a0 : Nat) : Mo h (GX2_candidate n h a0) := by
  unfold GX2_candidate
  exact mo_gQ (fun x1_ => mo_gC (mo_bnd (moJ2_size h x1_) hle_rf (fun r2 u2 m2 => mo_gC (mo_bnd (moX2_vector u2 a0 (r2 - 1)) m2 (fun r3 u3 m3 => mo_gC (mo_bnd (moX2_times n u3 a0 r3) m3 (fun r4 u4 m4 => mo_gI (fun x5_ => mo_ite (mo_gQ (fun x7_ => mo_gQ (fun x8_ => mo_gQ (fun x9_ => mo_gC (mo_bnd (moX3_product n u4 x9_ r4 r3) m4 (fun r10 u10 m10 => mo_gC (mo_bnd (moX2_norm u10 a0 (r2 - 1)) m10 (fun r11 u11 m11 => mo_gC (mo_bnd (moX3_quotient u11 x8_ r10 r11) m11 (fun r12 u12 m12 => mo_gC (mo_bnd (moX3_without n u12 x7_ r4 r12 r3) m12 (fun r13 u13 m13 => mo_gC (mo_bnd (moX2_latest u13 a0) m13 (fun r14 u14 m14 => mo_gC (mo_bnd (moX8_many u14 r14) m14 (fun r15 u15 m15 => mo_ite (mo_ret m15) (mo_gQ (fun x17_ => mo_gQ (fun x18_ => mo_gC (mo_bnd (moX2_norm u15 a0 (r2 - 1)) m15 (fun r19 u19 m19 => mo_gC (mo_bnd (moX2_norm u19 a0 ((r2 - 1) - 1)) m19 (fun r20 u20 m20 => mo_gC (mo_bnd (moX3_quotient u20 x18_ r19 r20) m20 (fun r21 u21 m21 => mo_gC (mo_bnd (moX2_vector u21 a0 ((r2 - 1) - 1)) m21 (fun r22 u22 m22 => mo_gC (mo_bnd (moX3_without n u22 x17_ r13 r21 r22) m22 (fun r23 u23 m23 => mo_ret m23))))))))))))))))))))))))))))) (mo_gC (mo_bnd (moX2_remainder n u4 a0 r4) m4 (fun r24 u24 m24 => mo_ret m24)))))))))))
set_option maxHeartbeats 4000000 in
set_option maxRecDepth 100000 in
theorem mgX2_candidate (l : Launch) (D : HD) (A : Nat → Prop) (h : Hp) (n : Nat) (a0 : Nat) (out : Nat × Hp) (hF : GX2_candidate n h a0 = some out) (mc ms : Nat) (hmc : hCc out.2 = hCc h + mc) (hms : hSl out.2 = hSl h + ms) : Met l yX2_candidate (ws_ yX2_candidate cX2_candidate 5 (some (.object "ExactChains$Vector"))) ({ frames := 5, cells := mc, slots := ms, locals := 108 }) (va_Pc [.ref a0] (hW D A h)) (va_Qr (fun _ : Hp => True) (fun u r t => (r, u) = out ∧ hW D A u t) A) mc ms A := by
  refine Met.ofW (cc := cX2_candidate) (maxL := 5) (ret := (some (.object "ExactChains$Vector"))) (by decide +kernel) rfl ?_
  intro p e s m args below meth c s₁ B hml hv
  obtain ⟨rfl, hr, hGr⟩ := hv
  have hx := B.exec
  have hb := B.bytes
  have hret := B.returns
  have hts := atoms_spec (ws := (ws_ yX2_candidate cX2_candidate 5 (some (.object "ExactChains$Vector")))) B.pre
  have hts : ∀ w ∈ lw_all, w.before _ s = true := fun w h => hts w (List.mem_cons_of_mem _ h)
  have hown : s.vm.findClass RX2 = some m.cls := findClass_of_methodNamed B.named
  have hlocks := B.notSynchronized
  have hS : va_S A s.heap s.heap [] := va_S.rf
  have hc : cst h 0 0 h := cst_0
  have hl := lv_entry ([.ref a0]) (n := 5) (Nat.le_of_ble_eq_true rfl)
  rw [lg_entry_eq]
  generalize (lg_sl ([.ref a0]) ++ List.replicate (5 - (lg_sl ([.ref a0])).length) Slot.unset).toArray = ls at hl ⊢
  have hl : lv_has ls 5 [(0, .ref a0)] := hl
  unfold GX2_candidate at hF
  refine lv_aload_n hx hb dX2_candidate_0 rfl (lv_at hl 0 rfl) ?_
  obtain ⟨fs1, x1_, e1, f1, hF⟩ := gQ_s hF
  refine h_get (C := RX2) (T := TX2) (N := 11) hx hb hts in_X2 hown hGr hr e1 (by decide) rfl 7 (by decide) (hts _ q582) (fun _ h9 => h9) f1 dX2_candidate_1 ?_
  obtain ⟨fc2, ec2, hF⟩ := gC_s hF
  obtain ⟨r2, u2, e2, hF⟩ := bnd_s hF
  have mm2 : hle u2 out.2 := (show Mo u2 _ from mo_gC (mo_bnd (moX2_vector u2 a0 (r2 - 1)) hle_rf (fun r3 u3 m3 => mo_gC (mo_bnd (moX2_times n u3 a0 r3) m3 (fun r4 u4 m4 => mo_gI (fun x5_ => mo_ite (mo_gQ (fun x7_ => mo_gQ (fun x8_ => mo_gQ (fun x9_ => mo_gC (mo_bnd (moX3_product n u4 x9_ r4 r3) m4 (fun r10 u10 m10 => mo_gC (mo_bnd (moX2_norm u10 a0 (r2 - 1)) m10 (fun r11 u11 m11 => mo_gC (mo_bnd (moX3_quotient u11 x8_ r10 r11) m11 (fun r12 u12 m12 => mo_gC (mo_bnd (moX3_without n u12 x7_ r4 r12 r3) m12 (fun r13 u13 m13 => mo_gC (mo_bnd (moX2_latest u13 a0) m13 (fun r14 u14 m14 => mo_gC (mo_bnd (moX8_many u14 r14) m14 (fun r15 u15 m15 => mo_ite (mo_ret m15) (mo_gQ (fun x17_ => mo_gQ (fun x18_ => mo_gC (mo_bnd (moX2_norm u15 a0 (r2 - 1)) m15 (fun r19 u19 m19 => mo_gC (mo_bnd (moX2_norm u19 a0 ((r2 - 1) - 1)) m19 (fun r20 u20 m20 => mo_gC (mo_bnd (moX3_quotient u20 x18_ r19 r20) m20 (fun r21 u21 m21 => mo_gC (mo_bnd (moX2_vector u21 a0 ((r2 - 1) - 1)) m21 (fun r22 u22 m22 => mo_gC (mo_bnd (moX3_without n u22 x17_ r13 r21 r22) m22 (fun r23 u23 m23 => mo_ret m23))))))))))))))))))))))))))))) (mo_gC (mo_bnd (moX2_remainder n u4 a0 r4) m4 (fun r24 u24 m24 => mo_ret m24))))))))) _ hF
  obtain ⟨mc2, ms2, hmc2, hms2⟩ := up_of (moJ2_size h x1_ _ e2)
  replace hc := cst_call hc hmc2 hms2
  refine h_callFi (va_runF (hGr.K.1 10 _ rfl).2 (As := []) (rest := []) ⟨hx, hb, hml, hown, hts⟩ (mgJ2_size l D A h x1_ _ e2 mc2 ms2 hmc2 hms2) (va_cwF 0 hts (lw_app (lw_fi q872 q875 q877 q106) (lw_meth q879)) rfl rfl rfl (fw_5 hGr) (by decide +kernel) ⟨Nat.le_of_ble_eq_true rfl, Nat.le_of_ble_eq_true rfl⟩) (h_preV hGr hr hS ec2 (by decide) (q := (RJ2, TJ2, 3)) rfl _) rfl rfl hl.1 rfl (lv_room (Nat.le_of_ble_eq_true rfl)) dX2_candidate_4 ⟨(bud hc mm2 hmc hms).1, (bud hc mm2 hmc hms).2⟩) hS (fun rr uu H locs hw hr hS => ?_)
  obtain rfl : u2 = uu := (congrArg Prod.snd hw).symm
  obtain rfl : r2 = rr := (congrArg Prod.fst hw).symm
  refine lv_iconst (v := 1) hx hb dX2_candidate_9 (by decide) ?_
  refine lv_isub hx hb dX2_candidate_10 ?_
  refine lv_istore_n (lv' := [(1, .int (r2 - 1)), (0, .ref a0)]) hx hb dX2_candidate_11 rfl hl (by decide) rfl (fun ls hl => ?_)
  refine lv_aload_n hx hb dX2_candidate_12 rfl (lv_at hl 1 rfl) ?_
  refine lv_iload_n hx hb dX2_candidate_13 rfl (lv_at hl 0 rfl) ?_
  obtain ⟨fc3, ec3, hF⟩ := gC_s hF
  obtain ⟨r3, u3, e3, hF⟩ := bnd_s hF
  have mm3 : hle u3 out.2 := (show Mo u3 _ from mo_gC (mo_bnd (moX2_times n u3 a0 r3) hle_rf (fun r4 u4 m4 => mo_gI (fun x5_ => mo_ite (mo_gQ (fun x7_ => mo_gQ (fun x8_ => mo_gQ (fun x9_ => mo_gC (mo_bnd (moX3_product n u4 x9_ r4 r3) m4 (fun r10 u10 m10 => mo_gC (mo_bnd (moX2_norm u10 a0 (r2 - 1)) m10 (fun r11 u11 m11 => mo_gC (mo_bnd (moX3_quotient u11 x8_ r10 r11) m11 (fun r12 u12 m12 => mo_gC (mo_bnd (moX3_without n u12 x7_ r4 r12 r3) m12 (fun r13 u13 m13 => mo_gC (mo_bnd (moX2_latest u13 a0) m13 (fun r14 u14 m14 => mo_gC (mo_bnd (moX8_many u14 r14) m14 (fun r15 u15 m15 => mo_ite (mo_ret m15) (mo_gQ (fun x17_ => mo_gQ (fun x18_ => mo_gC (mo_bnd (moX2_norm u15 a0 (r2 - 1)) m15 (fun r19 u19 m19 => mo_gC (mo_bnd (moX2_norm u19 a0 ((r2 - 1) - 1)) m19 (fun r20 u20 m20 => mo_gC (mo_bnd (moX3_quotient u20 x18_ r19 r20) m20 (fun r21 u21 m21 => mo_gC (mo_bnd (moX2_vector u21 a0 ((r2 - 1) - 1)) m21 (fun r22 u22 m22 => mo_gC (mo_bnd (moX3_without n u22 x17_ r13 r21 r22) m22 (fun r23 u23 m23 => mo_ret m23))))))))))))))))))))))))))))) (mo_gC (mo_bnd (moX2_remainder n u4 a0 r4) m4 (fun r24 u24 m24 => mo_ret m24))))))) _ hF
  obtain ⟨mc3, ms3, hmc3, hms3⟩ := up_of (moX2_vector u2 a0 (r2 - 1) _ e3)
  replace hc := cst_call hc hmc3 hms3
  refine h_callr (va_runV (As := [.int (r2 - 1)]) (rest := []) ⟨hx, hb, hml, hown, hts⟩ (mgX2_vector l D A u2 a0 (r2 - 1) _ e3 mc3 ms3 hmc3 hms3) (cwV 1 hts (lw_V q1013 q1014 q1015 q102 q1016) rfl rfl rfl (by decide +kernel) ⟨Nat.le_of_ble_eq_true rfl, Nat.le_of_ble_eq_true rfl⟩) (h_preV hGr hr hS ec3 (by decide) (q := (RX2, TX2, 11)) rfl _) rfl rfl hl.1 rfl (lv_room (Nat.le_of_ble_eq_true rfl)) dX2_candidate_14 ⟨(bud hc mm3 hmc hms).1, (bud hc mm3 hmc hms).2⟩) hS (fun rr uu H locs hw hr hS => ?_)
  obtain rfl : u3 = uu := (congrArg Prod.snd hw).symm
  obtain rfl : r3 = rr := (congrArg Prod.fst hw).symm
  refine lv_astore_n (lv' := [(2, .ref r3), (1, .int (r2 - 1)), (0, .ref a0)]) hx hb dX2_candidate_17 rfl hl (by decide) rfl (fun ls hl => ?_)
  refine lv_aload_n hx hb dX2_candidate_18 rfl (lv_at hl 2 rfl) ?_
  refine lv_aload_n hx hb dX2_candidate_19 rfl (lv_at hl 0 rfl) ?_
  obtain ⟨fc4, ec4, hF⟩ := gC_s hF
  obtain ⟨r4, u4, e4, hF⟩ := bnd_s hF
  have mm4 : hle u4 out.2 := (show Mo u4 _ from mo_gI (fun x5_ => mo_ite (mo_gQ (fun x7_ => mo_gQ (fun x8_ => mo_gQ (fun x9_ => mo_gC (mo_bnd (moX3_product n u4 x9_ r4 r3) hle_rf (fun r10 u10 m10 => mo_gC (mo_bnd (moX2_norm u10 a0 (r2 - 1)) m10 (fun r11 u11 m11 => mo_gC (mo_bnd (moX3_quotient u11 x8_ r10 r11) m11 (fun r12 u12 m12 => mo_gC (mo_bnd (moX3_without n u12 x7_ r4 r12 r3) m12 (fun r13 u13 m13 => mo_gC (mo_bnd (moX2_latest u13 a0) m13 (fun r14 u14 m14 => mo_gC (mo_bnd (moX8_many u14 r14) m14 (fun r15 u15 m15 => mo_ite (mo_ret m15) (mo_gQ (fun x17_ => mo_gQ (fun x18_ => mo_gC (mo_bnd (moX2_norm u15 a0 (r2 - 1)) m15 (fun r19 u19 m19 => mo_gC (mo_bnd (moX2_norm u19 a0 ((r2 - 1) - 1)) m19 (fun r20 u20 m20 => mo_gC (mo_bnd (moX3_quotient u20 x18_ r19 r20) m20 (fun r21 u21 m21 => mo_gC (mo_bnd (moX2_vector u21 a0 ((r2 - 1) - 1)) m21 (fun r22 u22 m22 => mo_gC (mo_bnd (moX3_without n u22 x17_ r13 r21 r22) m22 (fun r23 u23 m23 => mo_ret m23))))))))))))))))))))))))))))) (mo_gC (mo_bnd (moX2_remainder n u4 a0 r4) hle_rf (fun r24 u24 m24 => mo_ret m24))))) _ hF
  obtain ⟨mc4, ms4, hmc4, hms4⟩ := up_of (moX2_times n u3 a0 r3 _ e4)
  replace hc := cst_call hc hmc4 hms4
  refine h_callr (va_runV (As := [.ref r3]) (rest := []) ⟨hx, hb, hml, hown, hts⟩ (mgX2_times l D A u3 n a0 r3 _ e4 mc4 ms4 hmc4 hms4) (cwV 1 hts (lw_V q1055 q1056 q1057 q102 q1058) rfl rfl rfl (by decide +kernel) ⟨Nat.le_of_ble_eq_true rfl, Nat.le_of_ble_eq_true rfl⟩) (h_preV hGr hr hS ec4 (by decide) (q := (RX2, TX2, 11)) rfl _) rfl rfl hl.1 rfl (lv_room (Nat.le_of_ble_eq_true rfl)) dX2_candidate_20 ⟨(bud hc mm4 hmc hms).1, (bud hc mm4 hmc hms).2⟩) hS (fun rr uu H locs hw hr hS => ?_)
  obtain rfl : u4 = uu := (congrArg Prod.snd hw).symm
  obtain rfl : r4 = rr := (congrArg Prod.fst hw).symm
  refine lv_astore_n (lv' := [(3, .ref r4), (2, .ref r3), (1, .int (r2 - 1)), (0, .ref a0)]) hx hb dX2_candidate_23 rfl hl (by decide) rfl (fun ls hl => ?_)
  refine lv_aload_n hx hb dX2_candidate_24 rfl (lv_at hl 3 rfl) ?_
  obtain ⟨fs5, x5_, e5, f5, hF⟩ := gI_s hF
  refine h_get (C := RX2) (T := TX2) (N := 11) hx hb hts in_X2 hown hGr hr e5 (by decide) rfl 6 (by decide) (hts _ q579) (fun _ h9 => h9) f5 dX2_candidate_25 ?_
  refine lv_if_eq (tgt := 37) hx hb dX2_candidate_28 (by decide) (fun c6 => ?_) (fun c6 => ?_)
  · replace hF := it_t c6 hF
    refine lv_aload_n hx hb dX2_candidate_37 rfl (lv_at hl 3 rfl) ?_
    obtain ⟨fs7, x7_, e7, f7, hF⟩ := gQ_s hF
    refine h_get (C := RX2) (T := TX2) (N := 11) hx hb hts in_X2 hown hGr hr e7 (by decide) rfl 0 (by decide) (hts _ q562) (fun _ h9 => h9) f7 dX2_candidate_38 ?_
    refine lv_aload_n hx hb dX2_candidate_41 rfl (lv_at hl 0 rfl) ?_
    refine lv_aload_n hx hb dX2_candidate_42 rfl (lv_at hl 3 rfl) ?_
    obtain ⟨fs8, x8_, e8, f8, hF⟩ := gQ_s hF
    refine h_get (C := RX2) (T := TX2) (N := 11) hx hb hts in_X2 hown hGr hr e8 (by decide) rfl 0 (by decide) (hts _ q562) (fun _ h9 => h9) f8 dX2_candidate_43 ?_
    refine lv_aload_n hx hb dX2_candidate_46 rfl (lv_at hl 3 rfl) ?_
    obtain ⟨fs9, x9_, e9, f9, hF⟩ := gQ_s hF
    refine h_get (C := RX2) (T := TX2) (N := 11) hx hb hts in_X2 hown hGr hr e9 (by decide) rfl 0 (by decide) (hts _ q562) (fun _ h9 => h9) f9 dX2_candidate_47 ?_
    refine lv_aload_n hx hb dX2_candidate_50 rfl (lv_at hl 0 rfl) ?_
    refine lv_aload_n hx hb dX2_candidate_51 rfl (lv_at hl 1 rfl) ?_
    obtain ⟨fc10, ec10, hF⟩ := gC_s hF
    obtain ⟨r10, u10, e10, hF⟩ := bnd_s hF
    have mm10 : hle u10 out.2 := (show Mo u10 _ from mo_gC (mo_bnd (moX2_norm u10 a0 (r2 - 1)) hle_rf (fun r11 u11 m11 => mo_gC (mo_bnd (moX3_quotient u11 x8_ r10 r11) m11 (fun r12 u12 m12 => mo_gC (mo_bnd (moX3_without n u12 x7_ r4 r12 r3) m12 (fun r13 u13 m13 => mo_gC (mo_bnd (moX2_latest u13 a0) m13 (fun r14 u14 m14 => mo_gC (mo_bnd (moX8_many u14 r14) m14 (fun r15 u15 m15 => mo_ite (mo_ret m15) (mo_gQ (fun x17_ => mo_gQ (fun x18_ => mo_gC (mo_bnd (moX2_norm u15 a0 (r2 - 1)) m15 (fun r19 u19 m19 => mo_gC (mo_bnd (moX2_norm u19 a0 ((r2 - 1) - 1)) m19 (fun r20 u20 m20 => mo_gC (mo_bnd (moX3_quotient u20 x18_ r19 r20) m20 (fun r21 u21 m21 => mo_gC (mo_bnd (moX2_vector u21 a0 ((r2 - 1) - 1)) m21 (fun r22 u22 m22 => mo_gC (mo_bnd (moX3_without n u22 x17_ r13 r21 r22) m22 (fun r23 u23 m23 => mo_ret m23)))))))))))))))))))))))) _ hF
    obtain ⟨mc10, ms10, hmc10, hms10⟩ := up_of (moX3_product n u4 x9_ r4 r3 _ e10)
    replace hc := cst_call hc hmc10 hms10
    refine h_calli (va_runV (As := [.ref r4, .ref r3]) (rest := [.ref x8_, .ref r4, .ref x7_]) ⟨hx, hb, hml, hown, hts⟩ (mgX3_product l D A u4 n x9_ r4 r3 _ e10 mc10 ms10 hmc10 hms10) (cwV 2 hts (lw_V q968 q969 q970 q103 q971) rfl rfl rfl (by decide +kernel) ⟨Nat.le_of_ble_eq_true rfl, Nat.le_of_ble_eq_true rfl⟩) (h_preV hGr hr hS ec10 (by decide) (q := (RX3, TX3, 2)) rfl _) rfl rfl hl.1 rfl (lv_room (Nat.le_of_ble_eq_true rfl)) dX2_candidate_52 ⟨(bud hc mm10 hmc hms).1, (bud hc mm10 hmc hms).2⟩) hS (fun rr uu H locs hw hr hS => ?_)
    obtain rfl : u10 = uu := (congrArg Prod.snd hw).symm
    obtain rfl : r10 = rr := (congrArg Prod.fst hw).symm
    refine lv_aload_n hx hb dX2_candidate_55 rfl (lv_at hl 3 rfl) ?_
    refine lv_iload_n hx hb dX2_candidate_56 rfl (lv_at hl 2 rfl) ?_
    obtain ⟨fc11, ec11, hF⟩ := gC_s hF
    obtain ⟨r11, u11, e11, hF⟩ := bnd_s hF
    have mm11 : hle u11 out.2 := (show Mo u11 _ from mo_gC (mo_bnd (moX3_quotient u11 x8_ r10 r11) hle_rf (fun r12 u12 m12 => mo_gC (mo_bnd (moX3_without n u12 x7_ r4 r12 r3) m12 (fun r13 u13 m13 => mo_gC (mo_bnd (moX2_latest u13 a0) m13 (fun r14 u14 m14 => mo_gC (mo_bnd (moX8_many u14 r14) m14 (fun r15 u15 m15 => mo_ite (mo_ret m15) (mo_gQ (fun x17_ => mo_gQ (fun x18_ => mo_gC (mo_bnd (moX2_norm u15 a0 (r2 - 1)) m15 (fun r19 u19 m19 => mo_gC (mo_bnd (moX2_norm u19 a0 ((r2 - 1) - 1)) m19 (fun r20 u20 m20 => mo_gC (mo_bnd (moX3_quotient u20 x18_ r19 r20) m20 (fun r21 u21 m21 => mo_gC (mo_bnd (moX2_vector u21 a0 ((r2 - 1) - 1)) m21 (fun r22 u22 m22 => mo_gC (mo_bnd (moX3_without n u22 x17_ r13 r21 r22) m22 (fun r23 u23 m23 => mo_ret m23)))))))))))))))))))))) _ hF
    obtain ⟨mc11, ms11, hmc11, hms11⟩ := up_of (moX2_norm u10 a0 (r2 - 1) _ e11)
    replace hc := cst_call hc hmc11 hms11
    refine h_calli (va_runV (As := [.int (r2 - 1)]) (rest := [.int r10, .ref x8_, .ref r4, .ref x7_]) ⟨hx, hb, hml, hown, hts⟩ (mgX2_norm l D A u10 a0 (r2 - 1) _ e11 mc11 ms11 hmc11 hms11) (cwV 1 hts (lw_V q1021 q1022 q1023 q102 q1024) rfl rfl rfl (by decide +kernel) ⟨Nat.le_of_ble_eq_true rfl, Nat.le_of_ble_eq_true rfl⟩) (h_preV hGr hr hS ec11 (by decide) (q := (RX2, TX2, 11)) rfl _) rfl rfl hl.1 rfl (lv_room (Nat.le_of_ble_eq_true rfl)) dX2_candidate_57 ⟨(bud hc mm11 hmc hms).1, (bud hc mm11 hmc hms).2⟩) hS (fun rr uu H locs hw hr hS => ?_)
    obtain rfl : u11 = uu := (congrArg Prod.snd hw).symm
    obtain rfl : r11 = rr := (congrArg Prod.fst hw).symm
    obtain ⟨fc12, ec12, hF⟩ := gC_s hF
    obtain ⟨r12, u12, e12, hF⟩ := bnd_s hF
    have mm12 : hle u12 out.2 := (show Mo u12 _ from mo_gC (mo_bnd (moX3_without n u12 x7_ r4 r12 r3) hle_rf (fun r13 u13 m13 => mo_gC (mo_bnd (moX2_latest u13 a0) m13 (fun r14 u14 m14 => mo_gC (mo_bnd (moX8_many u14 r14) m14 (fun r15 u15 m15 => mo_ite (mo_ret m15) (mo_gQ (fun x17_ => mo_gQ (fun x18_ => mo_gC (mo_bnd (moX2_norm u15 a0 (r2 - 1)) m15 (fun r19 u19 m19 => mo_gC (mo_bnd (moX2_norm u19 a0 ((r2 - 1) - 1)) m19 (fun r20 u20 m20 => mo_gC (mo_bnd (moX3_quotient u20 x18_ r19 r20) m20 (fun r21 u21 m21 => mo_gC (mo_bnd (moX2_vector u21 a0 ((r2 - 1) - 1)) m21 (fun r22 u22 m22 => mo_gC (mo_bnd (moX3_without n u22 x17_ r13 r21 r22) m22 (fun r23 u23 m23 => mo_ret m23)))))))))))))))))))) _ hF
    obtain ⟨mc12, ms12, hmc12, hms12⟩ := up_of (moX3_quotient u11 x8_ r10 r11 _ e12)
    replace hc := cst_call hc hmc12 hms12
    refine h_calli (va_runV (As := [.int r10, .int r11]) (rest := [.ref r4, .ref x7_]) ⟨hx, hb, hml, hown, hts⟩ (mgX3_quotient l D A u11 x8_ r10 r11 _ e12 mc12 ms12 hmc12 hms12) (cwV 2 hts (lw_V q1029 q1030 q1031 q103 q1032) rfl rfl rfl (by decide +kernel) ⟨Nat.le_of_ble_eq_true rfl, Nat.le_of_ble_eq_true rfl⟩) (h_preV hGr hr hS ec12 (by decide) (q := (RX3, TX3, 2)) rfl _) rfl rfl hl.1 rfl (lv_room (Nat.le_of_ble_eq_true rfl)) dX2_candidate_60 ⟨(bud hc mm12 hmc hms).1, (bud hc mm12 hmc hms).2⟩) hS (fun rr uu H locs hw hr hS => ?_)
    obtain rfl : u12 = uu := (congrArg Prod.snd hw).symm
    obtain rfl : r12 = rr := (congrArg Prod.fst hw).symm
    refine lv_aload_n hx hb dX2_candidate_63 rfl (lv_at hl 1 rfl) ?_
    obtain ⟨fc13, ec13, hF⟩ := gC_s hF
    obtain ⟨r13, u13, e13, hF⟩ := bnd_s hF
    have mm13 : hle u13 out.2 := (show Mo u13 _ from mo_gC (mo_bnd (moX2_latest u13 a0) hle_rf (fun r14 u14 m14 => mo_gC (mo_bnd (moX8_many u14 r14) m14 (fun r15 u15 m15 => mo_ite (mo_ret m15) (mo_gQ (fun x17_ => mo_gQ (fun x18_ => mo_gC (mo_bnd (moX2_norm u15 a0 (r2 - 1)) m15 (fun r19 u19 m19 => mo_gC (mo_bnd (moX2_norm u19 a0 ((r2 - 1) - 1)) m19 (fun r20 u20 m20 => mo_gC (mo_bnd (moX3_quotient u20 x18_ r19 r20) m20 (fun r21 u21 m21 => mo_gC (mo_bnd (moX2_vector u21 a0 ((r2 - 1) - 1)) m21 (fun r22 u22 m22 => mo_gC (mo_bnd (moX3_without n u22 x17_ r13 r21 r22) m22 (fun r23 u23 m23 => mo_ret m23)))))))))))))))))) _ hF
    obtain ⟨mc13, ms13, hmc13, hms13⟩ := up_of (moX3_without n u12 x7_ r4 r12 r3 _ e13)
    replace hc := cst_call hc hmc13 hms13
    refine h_callr (va_runV (As := [.ref r4, .int r12, .ref r3]) (rest := []) ⟨hx, hb, hml, hown, hts⟩ (mgX3_without l D A u12 n x7_ r4 r12 r3 _ e13 mc13 ms13 hmc13 hms13) (cwV 3 hts (lw_V q1033 q1034 q1035 q103 q1036) rfl rfl rfl (by decide +kernel) ⟨Nat.le_of_ble_eq_true rfl, Nat.le_of_ble_eq_true rfl⟩) (h_preV hGr hr hS ec13 (by decide) (q := (RX3, TX3, 2)) rfl _) rfl rfl hl.1 rfl (lv_room (Nat.le_of_ble_eq_true rfl)) dX2_candidate_64 ⟨(bud hc mm13 hmc hms).1, (bud hc mm13 hmc hms).2⟩) hS (fun rr uu H locs hw hr hS => ?_)
    obtain rfl : u13 = uu := (congrArg Prod.snd hw).symm
    obtain rfl : r13 = rr := (congrArg Prod.fst hw).symm
    refine lv_astore (lv' := [(4, .ref r13), (3, .ref r4), (2, .ref r3), (1, .int (r2 - 1)), (0, .ref a0)]) hx hb dX2_candidate_67 hl (by decide) rfl (fun ls hl => ?_)
    refine lv_aload_n hx hb dX2_candidate_69 rfl (lv_at hl 4 rfl) ?_
    obtain ⟨fc14, ec14, hF⟩ := gC_s hF
    obtain ⟨r14, u14, e14, hF⟩ := bnd_s hF
    have mm14 : hle u14 out.2 := (show Mo u14 _ from mo_gC (mo_bnd (moX8_many u14 r14) hle_rf (fun r15 u15 m15 => mo_ite (mo_ret m15) (mo_gQ (fun x17_ => mo_gQ (fun x18_ => mo_gC (mo_bnd (moX2_norm u15 a0 (r2 - 1)) m15 (fun r19 u19 m19 => mo_gC (mo_bnd (moX2_norm u19 a0 ((r2 - 1) - 1)) m19 (fun r20 u20 m20 => mo_gC (mo_bnd (moX3_quotient u20 x18_ r19 r20) m20 (fun r21 u21 m21 => mo_gC (mo_bnd (moX2_vector u21 a0 ((r2 - 1) - 1)) m21 (fun r22 u22 m22 => mo_gC (mo_bnd (moX3_without n u22 x17_ r13 r21 r22) m22 (fun r23 u23 m23 => mo_ret m23)))))))))))))))) _ hF
    obtain ⟨mc14, ms14, hmc14, hms14⟩ := up_of (moX2_latest u13 a0 _ e14)
    replace hc := cst_call hc hmc14 hms14
    refine h_callr (va_runV (As := []) (rest := []) ⟨hx, hb, hml, hown, hts⟩ (mgX2_latest l D A u13 a0 _ e14 mc14 ms14 hmc14 hms14) (cwV 0 hts (lw_V q926 q928 qs13 q102 q929) rfl rfl rfl (by decide +kernel) ⟨Nat.le_of_ble_eq_true rfl, Nat.le_of_ble_eq_true rfl⟩) (h_preV hGr hr hS ec14 (by decide) (q := (RX2, TX2, 11)) rfl _) rfl rfl hl.1 rfl (lv_room (Nat.le_of_ble_eq_true rfl)) dX2_candidate_70 ⟨(bud hc mm14 hmc hms).1, (bud hc mm14 hmc hms).2⟩) hS (fun rr uu H locs hw hr hS => ?_)
    obtain rfl : u14 = uu := (congrArg Prod.snd hw).symm
    obtain rfl : r14 = rr := (congrArg Prod.fst hw).symm
    obtain ⟨fc15, ec15, hF⟩ := gC_s hF
    obtain ⟨r15, u15, e15, hF⟩ := bnd_s hF
    have mm15 : hle u15 out.2 := (show Mo u15 _ from mo_ite (mo_ret hle_rf) (mo_gQ (fun x17_ => mo_gQ (fun x18_ => mo_gC (mo_bnd (moX2_norm u15 a0 (r2 - 1)) hle_rf (fun r19 u19 m19 => mo_gC (mo_bnd (moX2_norm u19 a0 ((r2 - 1) - 1)) m19 (fun r20 u20 m20 => mo_gC (mo_bnd (moX3_quotient u20 x18_ r19 r20) m20 (fun r21 u21 m21 => mo_gC (mo_bnd (moX2_vector u21 a0 ((r2 - 1) - 1)) m21 (fun r22 u22 m22 => mo_gC (mo_bnd (moX3_without n u22 x17_ r13 r21 r22) m22 (fun r23 u23 m23 => mo_ret m23)))))))))))))) _ hF
    obtain ⟨mc15, ms15, hmc15, hms15⟩ := up_of (moX8_many u14 r14 _ e15)
    replace hc := cst_call hc hmc15 hms15
    refine h_calli (va_runV (As := []) (rest := []) ⟨hx, hb, hml, hown, hts⟩ (mgX8_many l D A u14 r14 _ e15 mc15 ms15 hmc15 hms15) (cwV 0 hts (lw_V q1047 q1048 q1049 q139 q1050) rfl rfl rfl (by decide +kernel) ⟨Nat.le_of_ble_eq_true rfl, Nat.le_of_ble_eq_true rfl⟩) (h_preV hGr hr hS ec15 (by decide) (q := (RX8, TX8, 3)) rfl _) rfl rfl hl.1 rfl (lv_room (Nat.le_of_ble_eq_true rfl)) dX2_candidate_73 ⟨(bud hc mm15 hmc hms).1, (bud hc mm15 hmc hms).2⟩) hS (fun rr uu H locs hw hr hS => ?_)
    obtain rfl : u15 = uu := (congrArg Prod.snd hw).symm
    obtain rfl : r15 = rr := (congrArg Prod.fst hw).symm
    refine lv_iconst (v := 1) hx hb dX2_candidate_76 (by decide) ?_
    refine lv_icmp_ne (tgt := 85) hx hb dX2_candidate_77 (by decide) (fun c16 => ?_) (fun c16 => ?_)
    · replace hF := it_f c16 hF
      refine lv_aload_n hx hb dX2_candidate_85 rfl (lv_at hl 4 rfl) ?_
      obtain ⟨fs17, x17_, e17, f17, hF⟩ := gQ_s hF
      refine h_get (C := RX2) (T := TX2) (N := 11) hx hb hts in_X2 hown hGr hr e17 (by decide) rfl 0 (by decide) (hts _ q562) (fun _ h9 => h9) f17 dX2_candidate_86 ?_
      refine lv_aload hx hb dX2_candidate_89 (lv_at hl 0 rfl) ?_
      refine lv_aload_n hx hb dX2_candidate_91 rfl (lv_at hl 4 rfl) ?_
      obtain ⟨fs18, x18_, e18, f18, hF⟩ := gQ_s hF
      refine h_get (C := RX2) (T := TX2) (N := 11) hx hb hts in_X2 hown hGr hr e18 (by decide) rfl 0 (by decide) (hts _ q562) (fun _ h9 => h9) f18 dX2_candidate_92 ?_
      refine lv_aload_n hx hb dX2_candidate_95 rfl (lv_at hl 4 rfl) ?_
      refine lv_iload_n hx hb dX2_candidate_96 rfl (lv_at hl 3 rfl) ?_
      obtain ⟨fc19, ec19, hF⟩ := gC_s hF
      obtain ⟨r19, u19, e19, hF⟩ := bnd_s hF
      have mm19 : hle u19 out.2 := (show Mo u19 _ from mo_gC (mo_bnd (moX2_norm u19 a0 ((r2 - 1) - 1)) hle_rf (fun r20 u20 m20 => mo_gC (mo_bnd (moX3_quotient u20 x18_ r19 r20) m20 (fun r21 u21 m21 => mo_gC (mo_bnd (moX2_vector u21 a0 ((r2 - 1) - 1)) m21 (fun r22 u22 m22 => mo_gC (mo_bnd (moX3_without n u22 x17_ r13 r21 r22) m22 (fun r23 u23 m23 => mo_ret m23))))))))) _ hF
      obtain ⟨mc19, ms19, hmc19, hms19⟩ := up_of (moX2_norm u15 a0 (r2 - 1) _ e19)
      replace hc := cst_call hc hmc19 hms19
      refine h_calli (va_runV (As := [.int (r2 - 1)]) (rest := [.ref x18_, .ref r13, .ref x17_]) ⟨hx, hb, hml, hown, hts⟩ (mgX2_norm l D A u15 a0 (r2 - 1) _ e19 mc19 ms19 hmc19 hms19) (cwV 1 hts (lw_V q1021 q1022 q1023 q102 q1024) rfl rfl rfl (by decide +kernel) ⟨Nat.le_of_ble_eq_true rfl, Nat.le_of_ble_eq_true rfl⟩) (h_preV hGr hr hS ec19 (by decide) (q := (RX2, TX2, 11)) rfl _) rfl rfl hl.1 rfl (lv_room (Nat.le_of_ble_eq_true rfl)) dX2_candidate_97 ⟨(bud hc mm19 hmc hms).1, (bud hc mm19 hmc hms).2⟩) hS (fun rr uu H locs hw hr hS => ?_)
      obtain rfl : u19 = uu := (congrArg Prod.snd hw).symm
      obtain rfl : r19 = rr := (congrArg Prod.fst hw).symm
      refine lv_aload_n hx hb dX2_candidate_100 rfl (lv_at hl 4 rfl) ?_
      refine lv_iload_n hx hb dX2_candidate_101 rfl (lv_at hl 3 rfl) ?_
      refine lv_iconst (v := 1) hx hb dX2_candidate_102 (by decide) ?_
      refine lv_isub hx hb dX2_candidate_103 ?_
      obtain ⟨fc20, ec20, hF⟩ := gC_s hF
      obtain ⟨r20, u20, e20, hF⟩ := bnd_s hF
      have mm20 : hle u20 out.2 := (show Mo u20 _ from mo_gC (mo_bnd (moX3_quotient u20 x18_ r19 r20) hle_rf (fun r21 u21 m21 => mo_gC (mo_bnd (moX2_vector u21 a0 ((r2 - 1) - 1)) m21 (fun r22 u22 m22 => mo_gC (mo_bnd (moX3_without n u22 x17_ r13 r21 r22) m22 (fun r23 u23 m23 => mo_ret m23))))))) _ hF
      obtain ⟨mc20, ms20, hmc20, hms20⟩ := up_of (moX2_norm u19 a0 ((r2 - 1) - 1) _ e20)
      replace hc := cst_call hc hmc20 hms20
      refine h_calli (va_runV (As := [.int ((r2 - 1) - 1)]) (rest := [.int r19, .ref x18_, .ref r13, .ref x17_]) ⟨hx, hb, hml, hown, hts⟩ (mgX2_norm l D A u19 a0 ((r2 - 1) - 1) _ e20 mc20 ms20 hmc20 hms20) (cwV 1 hts (lw_V q1021 q1022 q1023 q102 q1024) rfl rfl rfl (by decide +kernel) ⟨Nat.le_of_ble_eq_true rfl, Nat.le_of_ble_eq_true rfl⟩) (h_preV hGr hr hS ec20 (by decide) (q := (RX2, TX2, 11)) rfl _) rfl rfl hl.1 rfl (lv_room (Nat.le_of_ble_eq_true rfl)) dX2_candidate_104 ⟨(bud hc mm20 hmc hms).1, (bud hc mm20 hmc hms).2⟩) hS (fun rr uu H locs hw hr hS => ?_)
      obtain rfl : u20 = uu := (congrArg Prod.snd hw).symm
      obtain rfl : r20 = rr := (congrArg Prod.fst hw).symm
      obtain ⟨fc21, ec21, hF⟩ := gC_s hF
      obtain ⟨r21, u21, e21, hF⟩ := bnd_s hF
      have mm21 : hle u21 out.2 := (show Mo u21 _ from mo_gC (mo_bnd (moX2_vector u21 a0 ((r2 - 1) - 1)) hle_rf (fun r22 u22 m22 => mo_gC (mo_bnd (moX3_without n u22 x17_ r13 r21 r22) m22 (fun r23 u23 m23 => mo_ret m23))))) _ hF
      obtain ⟨mc21, ms21, hmc21, hms21⟩ := up_of (moX3_quotient u20 x18_ r19 r20 _ e21)
      replace hc := cst_call hc hmc21 hms21
      refine h_calli (va_runV (As := [.int r19, .int r20]) (rest := [.ref r13, .ref x17_]) ⟨hx, hb, hml, hown, hts⟩ (mgX3_quotient l D A u20 x18_ r19 r20 _ e21 mc21 ms21 hmc21 hms21) (cwV 2 hts (lw_V q1029 q1030 q1031 q103 q1032) rfl rfl rfl (by decide +kernel) ⟨Nat.le_of_ble_eq_true rfl, Nat.le_of_ble_eq_true rfl⟩) (h_preV hGr hr hS ec21 (by decide) (q := (RX3, TX3, 2)) rfl _) rfl rfl hl.1 rfl (lv_room (Nat.le_of_ble_eq_true rfl)) dX2_candidate_107 ⟨(bud hc mm21 hmc hms).1, (bud hc mm21 hmc hms).2⟩) hS (fun rr uu H locs hw hr hS => ?_)
      obtain rfl : u21 = uu := (congrArg Prod.snd hw).symm
      obtain rfl : r21 = rr := (congrArg Prod.fst hw).symm
      refine lv_aload_n hx hb dX2_candidate_110 rfl (lv_at hl 4 rfl) ?_
      refine lv_iload_n hx hb dX2_candidate_111 rfl (lv_at hl 3 rfl) ?_
      refine lv_iconst (v := 1) hx hb dX2_candidate_112 (by decide) ?_
      refine lv_isub hx hb dX2_candidate_113 ?_
      obtain ⟨fc22, ec22, hF⟩ := gC_s hF
      obtain ⟨r22, u22, e22, hF⟩ := bnd_s hF
      have mm22 : hle u22 out.2 := (show Mo u22 _ from mo_gC (mo_bnd (moX3_without n u22 x17_ r13 r21 r22) hle_rf (fun r23 u23 m23 => mo_ret m23))) _ hF
      obtain ⟨mc22, ms22, hmc22, hms22⟩ := up_of (moX2_vector u21 a0 ((r2 - 1) - 1) _ e22)
      replace hc := cst_call hc hmc22 hms22
      refine h_callr (va_runV (As := [.int ((r2 - 1) - 1)]) (rest := [.int r21, .ref r13, .ref x17_]) ⟨hx, hb, hml, hown, hts⟩ (mgX2_vector l D A u21 a0 ((r2 - 1) - 1) _ e22 mc22 ms22 hmc22 hms22) (cwV 1 hts (lw_V q1013 q1014 q1015 q102 q1016) rfl rfl rfl (by decide +kernel) ⟨Nat.le_of_ble_eq_true rfl, Nat.le_of_ble_eq_true rfl⟩) (h_preV hGr hr hS ec22 (by decide) (q := (RX2, TX2, 11)) rfl _) rfl rfl hl.1 rfl (lv_room (Nat.le_of_ble_eq_true rfl)) dX2_candidate_114 ⟨(bud hc mm22 hmc hms).1, (bud hc mm22 hmc hms).2⟩) hS (fun rr uu H locs hw hr hS => ?_)
      obtain rfl : u22 = uu := (congrArg Prod.snd hw).symm
      obtain rfl : r22 = rr := (congrArg Prod.fst hw).symm
      obtain ⟨fc23, ec23, hF⟩ := gC_s hF
      obtain ⟨r23, u23, e23, hF⟩ := bnd_s hF
      have mm23 : hle u23 out.2 := (show Mo u23 _ from mo_ret hle_rf) _ hF
      obtain ⟨mc23, ms23, hmc23, hms23⟩ := up_of (moX3_without n u22 x17_ r13 r21 r22 _ e23)
      replace hc := cst_call hc hmc23 hms23
      refine h_callr (va_runV (As := [.ref r13, .int r21, .ref r22]) (rest := []) ⟨hx, hb, hml, hown, hts⟩ (mgX3_without l D A u22 n x17_ r13 r21 r22 _ e23 mc23 ms23 hmc23 hms23) (cwV 3 hts (lw_V q1033 q1034 q1035 q103 q1036) rfl rfl rfl (by decide +kernel) ⟨Nat.le_of_ble_eq_true rfl, Nat.le_of_ble_eq_true rfl⟩) (h_preV hGr hr hS ec23 (by decide) (q := (RX3, TX3, 2)) rfl _) rfl rfl hl.1 rfl (lv_room (Nat.le_of_ble_eq_true rfl)) dX2_candidate_117 ⟨(bud hc mm23 hmc hms).1, (bud hc mm23 hmc hms).2⟩) hS (fun rr uu H locs hw hr hS => ?_)
      obtain rfl : u23 = uu := (congrArg Prod.snd hw).symm
      obtain rfl : r23 = rr := (congrArg Prod.fst hw).symm
      have bz := bud_r hc hF hmc hms
      refine W.widen (k := mc) (n := ms) bz.1 bz.2 ?_
      exact W.aret (v := .ref r23) hx hb hret (Or.inl ⟨_, rfl⟩) (Or.inr ⟨_, rfl⟩) (fun t ht hWm => ⟨⟨u23, r23, rfl, trivial, Option.some.inj hF, h_end hGr hr hS ht hWm⟩, hS.F ht⟩) hS.2.2 dX2_candidate_120
    · replace hF := it_t c16 hF
      refine lv_aload hx hb dX2_candidate_80 (lv_at hl 0 rfl) ?_
      refine lv_goto (tgt := 120) hx hb dX2_candidate_82 (by decide) ?_
      have bz := bud_r hc hF hmc hms
      refine W.widen (k := mc) (n := ms) bz.1 bz.2 ?_
      exact W.aret (v := .ref r13) hx hb hret (Or.inl ⟨_, rfl⟩) (Or.inr ⟨_, rfl⟩) (fun t ht hWm => ⟨⟨u15, r13, rfl, trivial, Option.some.inj hF, h_end hGr hr hS ht hWm⟩, hS.F ht⟩) hS.2.2 dX2_candidate_120
  · replace hF := it_f c6 hF
    refine lv_aload_n hx hb dX2_candidate_31 rfl (lv_at hl 3 rfl) ?_
    refine lv_aload_n hx hb dX2_candidate_32 rfl (lv_at hl 0 rfl) ?_
    obtain ⟨fc24, ec24, hF⟩ := gC_s hF
    obtain ⟨r24, u24, e24, hF⟩ := bnd_s hF
    have mm24 : hle u24 out.2 := (show Mo u24 _ from mo_ret hle_rf) _ hF
    obtain ⟨mc24, ms24, hmc24, hms24⟩ := up_of (moX2_remainder n u4 a0 r4 _ e24)
    replace hc := cst_call hc hmc24 hms24
    refine h_callr (va_runV (As := [.ref r4]) (rest := []) ⟨hx, hb, hml, hown, hts⟩ (mgX2_remainder l D A u4 n a0 r4 _ e24 mc24 ms24 hmc24 hms24) (cwV 1 hts (lw_V q1009 q1010 q1011 q102 q1012) rfl rfl rfl (by decide +kernel) ⟨Nat.le_of_ble_eq_true rfl, Nat.le_of_ble_eq_true rfl⟩) (h_preV hGr hr hS ec24 (by decide) (q := (RX2, TX2, 11)) rfl _) rfl rfl hl.1 rfl (lv_room (Nat.le_of_ble_eq_true rfl)) dX2_candidate_33 ⟨(bud hc mm24 hmc hms).1, (bud hc mm24 hmc hms).2⟩) hS (fun rr uu H locs hw hr hS => ?_)
    obtain rfl : u24 = uu := (congrArg Prod.snd hw).symm
    obtain rfl : r24 = rr := (congrArg Prod.fst hw).symm
    have bz := bud_r hc hF hmc hms
    refine W.widen (k := mc) (n := ms) bz.1 bz.2 ?_
    exact W.aret (v := .ref r24) hx hb hret (Or.inl ⟨_, rfl⟩) (Or.inr ⟨_, rfl⟩) (fun t ht hWm => ⟨⟨u24, r24, rfl, trivial, Option.some.inj hF, h_end hGr hr hS ht hWm⟩, hS.F ht⟩) hS.2.2 dX2_candidate_36

def GX2_ends (h : Hp) (a0 : Nat) (p1 : Int32) : Option (Int32 × Hp) := gC h a0 2 (bnd (GX2_latest h a0) (fun r1 u1 => gC u1 r1 7 (bnd (GX8_ended u1 r1 p1) (fun r2 u2 => gC u2 a0 2 (bnd (GX2_replaces u2 a0 r2) (fun r3 u3 => some (p1, u3)))))))
theorem moX2_ends (h : Hp) (a0 : Nat) (p1 : Int32) : Mo h (GX2_ends h a0 p1) := by
  unfold GX2_ends
  exact mo_gC (mo_bnd (moX2_latest h a0) hle_rf (fun r1 u1 m1 => mo_gC (mo_bnd (moX8_ended u1 r1 p1) m1 (fun r2 u2 m2 => mo_gC (mo_bnd (moX2_replaces u2 a0 r2) m2 (fun r3 u3 m3 => mo_ret m3))))))
set_option maxHeartbeats 4000000 in
set_option maxRecDepth 100000 in
theorem mgX2_ends (l : Launch) (D : HD) (A : Nat → Prop) (h : Hp) (a0 : Nat) (p1 : Int32) (out : Int32 × Hp) (hF : GX2_ends h a0 p1 = some out) (mc ms : Nat) (hmc : hCc out.2 = hCc h + mc) (hms : hSl out.2 = hSl h + ms) : Met l yX2_ends (ws_ yX2_ends cX2_ends 2 (some .int)) ({ frames := 4, cells := mc, slots := ms, locals := 88 }) (va_Pc [.ref a0, .int p1] (hW D A h)) (va_Qi (fun r u => (r, u) = out) (hW D A) A) mc ms A := by
  refine Met.ofW (cc := cX2_ends) (maxL := 2) (ret := (some .int)) (by decide +kernel) rfl ?_
  intro p e s m args below meth c s₁ B hml hv
  obtain ⟨rfl, hr, hGr⟩ := hv
  have hx := B.exec
  have hb := B.bytes
  have hret := B.returns
  have hts := atoms_spec (ws := (ws_ yX2_ends cX2_ends 2 (some .int))) B.pre
  have hts : ∀ w ∈ lw_all, w.before _ s = true := fun w h => hts w (List.mem_cons_of_mem _ h)
  have hown : s.vm.findClass RX2 = some m.cls := findClass_of_methodNamed B.named
  have hlocks := B.notSynchronized
  have hS : va_S A s.heap s.heap [] := va_S.rf
  have hc : cst h 0 0 h := cst_0
  have hl := lv_entry ([.ref a0, .int p1]) (n := 2) (Nat.le_of_ble_eq_true rfl)
  rw [lg_entry_eq]
  generalize (lg_sl ([.ref a0, .int p1]) ++ List.replicate (2 - (lg_sl ([.ref a0, .int p1])).length) Slot.unset).toArray = ls at hl ⊢
  have hl : lv_has ls 2 [(0, .ref a0), (1, .int p1)] := hl
  unfold GX2_ends at hF
  refine lv_aload_n hx hb dX2_ends_0 rfl (lv_at hl 0 rfl) ?_
  refine lv_aload_n hx hb dX2_ends_1 rfl (lv_at hl 0 rfl) ?_
  obtain ⟨fc1, ec1, hF⟩ := gC_s hF
  obtain ⟨r1, u1, e1, hF⟩ := bnd_s hF
  have mm1 : hle u1 out.2 := (show Mo u1 _ from mo_gC (mo_bnd (moX8_ended u1 r1 p1) hle_rf (fun r2 u2 m2 => mo_gC (mo_bnd (moX2_replaces u2 a0 r2) m2 (fun r3 u3 m3 => mo_ret m3))))) _ hF
  obtain ⟨mc1, ms1, hmc1, hms1⟩ := up_of (moX2_latest h a0 _ e1)
  replace hc := cst_call hc hmc1 hms1
  refine h_callr (va_runV (As := []) (rest := [.ref a0]) ⟨hx, hb, hml, hown, hts⟩ (mgX2_latest l D A h a0 _ e1 mc1 ms1 hmc1 hms1) (cwV 0 hts (lw_V q926 q928 qs13 q102 q929) rfl rfl rfl (by decide +kernel) ⟨Nat.le_of_ble_eq_true rfl, Nat.le_of_ble_eq_true rfl⟩) (h_preV hGr hr hS ec1 (by decide) (q := (RX2, TX2, 11)) rfl _) rfl rfl hl.1 rfl (lv_room (Nat.le_of_ble_eq_true rfl)) dX2_ends_2 ⟨(bud hc mm1 hmc hms).1, (bud hc mm1 hmc hms).2⟩) hS (fun rr uu H locs hw hr hS => ?_)
  obtain rfl : u1 = uu := (congrArg Prod.snd hw).symm
  obtain rfl : r1 = rr := (congrArg Prod.fst hw).symm
  refine lv_iload_n hx hb dX2_ends_5 rfl (lv_at hl 1 rfl) ?_
  obtain ⟨fc2, ec2, hF⟩ := gC_s hF
  obtain ⟨r2, u2, e2, hF⟩ := bnd_s hF
  have mm2 : hle u2 out.2 := (show Mo u2 _ from mo_gC (mo_bnd (moX2_replaces u2 a0 r2) hle_rf (fun r3 u3 m3 => mo_ret m3))) _ hF
  obtain ⟨mc2, ms2, hmc2, hms2⟩ := up_of (moX8_ended u1 r1 p1 _ e2)
  replace hc := cst_call hc hmc2 hms2
  refine h_callr (va_runV (As := [.int p1]) (rest := [.ref a0]) ⟨hx, hb, hml, hown, hts⟩ (mgX8_ended l D A u1 r1 p1 _ e2 mc2 ms2 hmc2 hms2) (cwV 1 hts (lw_V q949 q950 q951 q139 q952) rfl rfl rfl (by decide +kernel) ⟨Nat.le_of_ble_eq_true rfl, Nat.le_of_ble_eq_true rfl⟩) (h_preV hGr hr hS ec2 (by decide) (q := (RX8, TX8, 3)) rfl _) rfl rfl hl.1 rfl (lv_room (Nat.le_of_ble_eq_true rfl)) dX2_ends_6 ⟨(bud hc mm2 hmc hms).1, (bud hc mm2 hmc hms).2⟩) hS (fun rr uu H locs hw hr hS => ?_)
  obtain rfl : u2 = uu := (congrArg Prod.snd hw).symm
  obtain rfl : r2 = rr := (congrArg Prod.fst hw).symm
  obtain ⟨fc3, ec3, hF⟩ := gC_s hF
  obtain ⟨r3, u3, e3, hF⟩ := bnd_s hF
  have mm3 : hle u3 out.2 := (show Mo u3 _ from mo_ret hle_rf) _ hF
  obtain ⟨mc3, ms3, hmc3, hms3⟩ := up_of (moX2_replaces u2 a0 r2 _ e3)
  replace hc := cst_call hc hmc3 hms3
  refine h_callv (va_runV (As := [.ref r2]) (rest := []) ⟨hx, hb, hml, hown, hts⟩ (mgX2_replaces l D A u2 a0 r2 _ e3 mc3 ms3 hmc3 hms3) (cwV 1 hts (lw_V q955 q957 qs14 q102 q958) rfl rfl rfl (by decide +kernel) ⟨Nat.le_of_ble_eq_true rfl, Nat.le_of_ble_eq_true rfl⟩) (h_preV hGr hr hS ec3 (by decide) (q := (RX2, TX2, 11)) rfl _) rfl rfl hl.1 rfl (lv_room (Nat.le_of_ble_eq_true rfl)) dX2_ends_9 ⟨(bud hc mm3 hmc hms).1, (bud hc mm3 hmc hms).2⟩) hS (fun uu H locs hw hr hS => ?_)
  obtain rfl : u3 = uu := (congrArg Prod.snd hw).symm
  refine lv_iload_n hx hb dX2_ends_12 rfl (lv_at hl 1 rfl) ?_
  have bz := bud_r hc hF hmc hms
  refine W.widen (k := mc) (n := ms) bz.1 bz.2 ?_
  exact W.iret (v := p1) hx hb hret (fun t ht hWm => ⟨⟨p1, u3, rfl, Option.some.inj hF, h_end hGr hr hS ht hWm⟩, hS.F ht⟩) hS.2.2 dX2_ends_13

def GX2_judges (n : Nat) (h : Hp) (a0 : Nat) (a1 : Nat) : Option (Int32 × Hp) := gC h a1 4 (bnd (GX4_isNull n h a1) (fun r1 u1 => if r1 = 0 then gQ u1 a0 2 0 (fun x3_ => gC u1 x3_ 3 (bnd (GX3_product n u1 x3_ a1 a1) (fun r4 u4 => if r4 = 0 then gC u4 a0 2 (bnd (GX2_ends u4 a0 (2 : Int32)) (fun r20 u20 => some (r20, u20))) else gQ u4 a0 2 7 (fun x6_ => nW u4 8 [.null, .int 0, .int 0] 3 (fun a7_ h7 => gQ h7 a0 2 8 (fun x8_ => gC h7 x8_ 10 (bnd (GJ2_size h7 x8_) (fun r9 u9 => bnd (GX9_init u9 a7_ a1 r4 (r9 - 1)) (fun r10 u10 => gC u10 x6_ 10 (bnd (GJ2_add u10 x6_ a7_) (fun r11 u11 => gC u11 a0 2 (bnd (GX2_latest u11 a0) (fun r12 u12 => gC u12 r12 7 (bnd (GX8_longer u12 r12) (fun r13 u13 => gC u13 a0 2 (bnd (GX2_replaces u13 a0 r13) (fun r14 u14 => gQ u14 a0 2 7 (fun x15_ => gC u14 x15_ 10 (bnd (GJ2_size u14 x15_) (fun r16 u16 => gI u16 a0 2 1 (fun x17_ => if x17_ ≤ r16 then pV u16 a0 2 9 (.int 4) (fun h19 => some ((4 : Int32), h19)) else some ((0 : Int32), u16)))))))))))))))))))))) else gC u1 a0 2 (bnd (GX2_ends u1 a0 (1 : Int32)) (fun r21 u21 => some (r21, u21)))))
theorem moX2_judges (n : Nat) (h : Hp) (a0 : Nat) (a1 : Nat) : Mo h (GX2_judges n h a0 a1) := by
  unfold GX2_judges
  exact mo_gC (mo_bnd (moX4_isNull n h a1) hle_rf (fun r1 u1 m1 => mo_ite (mo_gQ (fun x3_ => mo_gC (mo_bnd (moX3_product n u1 x3_ a1 a1) m1 (fun r4 u4 m4 => mo_ite (mo_gC (mo_bnd (moX2_ends u4 a0 (2 : Int32)) m4 (fun r20 u20 m20 => mo_ret m20))) (mo_gQ (fun x6_ => mo_nW m4 (fun a7_ h7 m7 => mo_gQ (fun x8_ => mo_gC (mo_bnd (moJ2_size h7 x8_) m7 (fun r9 u9 m9 => mo_bnd (moX9_init u9 a7_ a1 r4 (r9 - 1)) m9 (fun r10 u10 m10 => mo_gC (mo_bnd (moJ2_add u10 x6_ a7_) m10 (fun r11 u11 m11 => mo_gC (mo_bnd (moX2_latest u11 a0) m11 (fun r12 u12 m12 => mo_gC (mo_bnd (moX8_longer u12 r12) m12 (fun r13 u13 m13 => mo_gC (mo_bnd (moX2_replaces u13 a0 r13) m13 (fun r14 u14 m14 => mo_gQ (fun x15_ => mo_gC (mo_bnd (moJ2_size u14 x15_) m14 (fun r16 u16 m16 => mo_gI (fun x17_ => mo_ite (mo_pV m16 (fun h19 m19 => mo_ret m19)) (mo_ret m16)))))))))))))))))))))))) (mo_gC (mo_bnd (moX2_ends u1 a0 (1 : Int32)) m1 (fun r21 u21 m21 => mo_ret m21)))))
set_option maxHeartbeats 4000000 in
set_option maxRecDepth 100000 in
theorem mgX2_judges (l : Launch) (D : HD) (A : Nat → Prop) (h : Hp) (n : Nat) (a0 : Nat) (a1 : Nat) (out : Int32 × Hp) (hF : GX2_judges n h a0 a1 = some out) (mc ms : Nat) (hmc : hCc out.2 = hCc h + mc) (hms : hSl out.2 = hSl h + ms) : Met l yX2_judges (ws_ yX2_judges cX2_judges 3 (some .int)) ({ frames := 7, cells := mc, slots := ms, locals := 211 }) (va_Pc [.ref a0, .ref a1] (hW D A h)) (va_Qi (fun r u => (r, u) = out) (hW D A) A) mc ms A := by
  refine Met.ofW (cc := cX2_judges) (maxL := 3) (ret := (some .int)) (by decide +kernel) rfl ?_
  intro p e s m args below meth c s₁ B hml hv
  obtain ⟨rfl, hr, hGr⟩ := hv
  have hx := B.exec
  have hb := B.bytes
  have hret := B.returns
  have hts := atoms_spec (ws := (ws_ yX2_judges cX2_judges 3 (some .int))) B.pre
  have hts : ∀ w ∈ lw_all, w.before _ s = true := fun w h => hts w (List.mem_cons_of_mem _ h)
  have hown : s.vm.findClass RX2 = some m.cls := findClass_of_methodNamed B.named
  have hlocks := B.notSynchronized
  have hS : va_S A s.heap s.heap [] := va_S.rf
  have hc : cst h 0 0 h := cst_0
  have hl := lv_entry ([.ref a0, .ref a1]) (n := 3) (Nat.le_of_ble_eq_true rfl)
  rw [lg_entry_eq]
  generalize (lg_sl ([.ref a0, .ref a1]) ++ List.replicate (3 - (lg_sl ([.ref a0, .ref a1])).length) Slot.unset).toArray = ls at hl ⊢
  have hl : lv_has ls 3 [(0, .ref a0), (1, .ref a1)] := hl
  unfold GX2_judges at hF
  refine lv_aload_n hx hb dX2_judges_0 rfl (lv_at hl 1 rfl) ?_
  obtain ⟨fc1, ec1, hF⟩ := gC_s hF
  obtain ⟨r1, u1, e1, hF⟩ := bnd_s hF
  have mm1 : hle u1 out.2 := (show Mo u1 _ from mo_ite (mo_gQ (fun x3_ => mo_gC (mo_bnd (moX3_product n u1 x3_ a1 a1) hle_rf (fun r4 u4 m4 => mo_ite (mo_gC (mo_bnd (moX2_ends u4 a0 (2 : Int32)) m4 (fun r20 u20 m20 => mo_ret m20))) (mo_gQ (fun x6_ => mo_nW m4 (fun a7_ h7 m7 => mo_gQ (fun x8_ => mo_gC (mo_bnd (moJ2_size h7 x8_) m7 (fun r9 u9 m9 => mo_bnd (moX9_init u9 a7_ a1 r4 (r9 - 1)) m9 (fun r10 u10 m10 => mo_gC (mo_bnd (moJ2_add u10 x6_ a7_) m10 (fun r11 u11 m11 => mo_gC (mo_bnd (moX2_latest u11 a0) m11 (fun r12 u12 m12 => mo_gC (mo_bnd (moX8_longer u12 r12) m12 (fun r13 u13 m13 => mo_gC (mo_bnd (moX2_replaces u13 a0 r13) m13 (fun r14 u14 m14 => mo_gQ (fun x15_ => mo_gC (mo_bnd (moJ2_size u14 x15_) m14 (fun r16 u16 m16 => mo_gI (fun x17_ => mo_ite (mo_pV m16 (fun h19 m19 => mo_ret m19)) (mo_ret m16)))))))))))))))))))))))) (mo_gC (mo_bnd (moX2_ends u1 a0 (1 : Int32)) hle_rf (fun r21 u21 m21 => mo_ret m21)))) _ hF
  obtain ⟨mc1, ms1, hmc1, hms1⟩ := up_of (moX4_isNull n h a1 _ e1)
  replace hc := cst_call hc hmc1 hms1
  refine h_calli (va_runV (As := []) (rest := []) ⟨hx, hb, hml, hown, hts⟩ (mgX4_isNull l D A h n a1 _ e1 mc1 ms1 hmc1 hms1) (cwV 0 hts (lw_V q918 q919 q920 q123 q921) rfl rfl rfl (by decide +kernel) ⟨Nat.le_of_ble_eq_true rfl, Nat.le_of_ble_eq_true rfl⟩) (h_preV hGr hr hS ec1 (by decide) (q := (RX4, TX4, 1)) rfl _) rfl rfl hl.1 rfl (lv_room (Nat.le_of_ble_eq_true rfl)) dX2_judges_1 ⟨(bud hc mm1 hmc hms).1, (bud hc mm1 hmc hms).2⟩) hS (fun rr uu H locs hw hr hS => ?_)
  obtain rfl : u1 = uu := (congrArg Prod.snd hw).symm
  obtain rfl : r1 = rr := (congrArg Prod.fst hw).symm
  refine lv_if_eq (tgt := 13) hx hb dX2_judges_4 (by decide) (fun c2 => ?_) (fun c2 => ?_)
  · replace hF := it_t c2 hF
    refine lv_aload_n hx hb dX2_judges_13 rfl (lv_at hl 0 rfl) ?_
    obtain ⟨fs3, x3_, e3, f3, hF⟩ := gQ_s hF
    refine h_get (C := RX2) (T := TX2) (N := 11) hx hb hts in_X2 hown hGr hr e3 (by decide) rfl 0 (by decide) (hts _ q562) (fun _ h9 => h9) f3 dX2_judges_14 ?_
    refine lv_aload_n hx hb dX2_judges_17 rfl (lv_at hl 1 rfl) ?_
    refine lv_aload_n hx hb dX2_judges_18 rfl (lv_at hl 1 rfl) ?_
    obtain ⟨fc4, ec4, hF⟩ := gC_s hF
    obtain ⟨r4, u4, e4, hF⟩ := bnd_s hF
    have mm4 : hle u4 out.2 := (show Mo u4 _ from mo_ite (mo_gC (mo_bnd (moX2_ends u4 a0 (2 : Int32)) hle_rf (fun r20 u20 m20 => mo_ret m20))) (mo_gQ (fun x6_ => mo_nW hle_rf (fun a7_ h7 m7 => mo_gQ (fun x8_ => mo_gC (mo_bnd (moJ2_size h7 x8_) m7 (fun r9 u9 m9 => mo_bnd (moX9_init u9 a7_ a1 r4 (r9 - 1)) m9 (fun r10 u10 m10 => mo_gC (mo_bnd (moJ2_add u10 x6_ a7_) m10 (fun r11 u11 m11 => mo_gC (mo_bnd (moX2_latest u11 a0) m11 (fun r12 u12 m12 => mo_gC (mo_bnd (moX8_longer u12 r12) m12 (fun r13 u13 m13 => mo_gC (mo_bnd (moX2_replaces u13 a0 r13) m13 (fun r14 u14 m14 => mo_gQ (fun x15_ => mo_gC (mo_bnd (moJ2_size u14 x15_) m14 (fun r16 u16 m16 => mo_gI (fun x17_ => mo_ite (mo_pV m16 (fun h19 m19 => mo_ret m19)) (mo_ret m16))))))))))))))))))))) _ hF
    obtain ⟨mc4, ms4, hmc4, hms4⟩ := up_of (moX3_product n u1 x3_ a1 a1 _ e4)
    replace hc := cst_call hc hmc4 hms4
    refine h_calli (va_runV (As := [.ref a1, .ref a1]) (rest := []) ⟨hx, hb, hml, hown, hts⟩ (mgX3_product l D A u1 n x3_ a1 a1 _ e4 mc4 ms4 hmc4 hms4) (cwV 2 hts (lw_V q968 q969 q970 q103 q971) rfl rfl rfl (by decide +kernel) ⟨Nat.le_of_ble_eq_true rfl, Nat.le_of_ble_eq_true rfl⟩) (h_preV hGr hr hS ec4 (by decide) (q := (RX3, TX3, 2)) rfl _) rfl rfl hl.1 rfl (lv_room (Nat.le_of_ble_eq_true rfl)) dX2_judges_19 ⟨(bud hc mm4 hmc hms).1, (bud hc mm4 hmc hms).2⟩) hS (fun rr uu H locs hw hr hS => ?_)
    obtain rfl : u4 = uu := (congrArg Prod.snd hw).symm
    obtain rfl : r4 = rr := (congrArg Prod.fst hw).symm
    refine lv_istore_n (lv' := [(2, .int r4), (0, .ref a0), (1, .ref a1)]) hx hb dX2_judges_22 rfl hl (by decide) rfl (fun ls hl => ?_)
    refine lv_iload_n hx hb dX2_judges_23 rfl (lv_at hl 0 rfl) ?_
    refine lv_if_ne (tgt := 33) hx hb dX2_judges_24 (by decide) (fun c5 => ?_) (fun c5 => ?_)
    · replace hF := it_f c5 hF
      refine lv_aload_n hx hb dX2_judges_33 rfl (lv_at hl 1 rfl) ?_
      obtain ⟨fs6, x6_, e6, f6, hF⟩ := gQ_s hF
      refine h_get (C := RX2) (T := TX2) (N := 11) hx hb hts in_X2 hown hGr hr e6 (by decide) rfl 7 (by decide) (hts _ q582) (fun _ h9 => h9) f6 dX2_judges_34 ?_
      obtain ⟨a7_, h7, ea7, eh7, hF⟩ := nW_s hF
      have mm7 : hle h7 out.2 := (show Mo h7 _ from mo_gQ (fun x8_ => mo_gC (mo_bnd (moJ2_size h7 x8_) hle_rf (fun r9 u9 m9 => mo_bnd (moX9_init u9 a7_ a1 r4 (r9 - 1)) m9 (fun r10 u10 m10 => mo_gC (mo_bnd (moJ2_add u10 x6_ a7_) m10 (fun r11 u11 m11 => mo_gC (mo_bnd (moX2_latest u11 a0) m11 (fun r12 u12 m12 => mo_gC (mo_bnd (moX8_longer u12 r12) m12 (fun r13 u13 m13 => mo_gC (mo_bnd (moX2_replaces u13 a0 r13) m13 (fun r14 u14 m14 => mo_gQ (fun x15_ => mo_gC (mo_bnd (moJ2_size u14 x15_) m14 (fun r16 u16 m16 => mo_gI (fun x17_ => mo_ite (mo_pV m16 (fun h19 m19 => mo_ret m19)) (mo_ret m16)))))))))))))))))) _ hF
      replace hc := cst_new hc eh7
      refine h_new (C := RX9) (T := TX9) (N := 3) hx hb hts in_X9 tyX9 tyX9_ok hown (hts _ q976) (hts _ q977) (hts _ q140) hGr hr hS (ci := 8) (by decide) rfl (fs := [.null, .int 0, .int 0]) (fun j hj => by match j, hj with | 0, _ => rfl | 1, _ => rfl | 2, _ => rfl | j + 3, hj => omega) (bud hc mm7 hmc hms).1 (bud hc mm7 hmc hms).2 dX2_judges_37 (fun H hr hS => ?_)
      rw [← eh7] at hr
      rw [← ea7]
      refine lv_dup hx hb dX2_judges_40 rfl ?_
      refine lv_aload_n hx hb dX2_judges_41 rfl (lv_at hl 2 rfl) ?_
      refine lv_iload_n hx hb dX2_judges_42 rfl (lv_at hl 0 rfl) ?_
      refine lv_aload_n hx hb dX2_judges_43 rfl (lv_at hl 1 rfl) ?_
      obtain ⟨fs8, x8_, e8, f8, hF⟩ := gQ_s hF
      refine h_get (C := RX2) (T := TX2) (N := 11) hx hb hts in_X2 hown hGr hr e8 (by decide) rfl 8 (by decide) (hts _ q584) (fun _ h9 => h9) f8 dX2_judges_44 ?_
      obtain ⟨fc9, ec9, hF⟩ := gC_s hF
      obtain ⟨r9, u9, e9, hF⟩ := bnd_s hF
      have mm9 : hle u9 out.2 := (show Mo u9 _ from mo_bnd (moX9_init u9 a7_ a1 r4 (r9 - 1)) hle_rf (fun r10 u10 m10 => mo_gC (mo_bnd (moJ2_add u10 x6_ a7_) m10 (fun r11 u11 m11 => mo_gC (mo_bnd (moX2_latest u11 a0) m11 (fun r12 u12 m12 => mo_gC (mo_bnd (moX8_longer u12 r12) m12 (fun r13 u13 m13 => mo_gC (mo_bnd (moX2_replaces u13 a0 r13) m13 (fun r14 u14 m14 => mo_gQ (fun x15_ => mo_gC (mo_bnd (moJ2_size u14 x15_) m14 (fun r16 u16 m16 => mo_gI (fun x17_ => mo_ite (mo_pV m16 (fun h19 m19 => mo_ret m19)) (mo_ret m16))))))))))))))) _ hF
      obtain ⟨mc9, ms9, hmc9, hms9⟩ := up_of (moJ2_size h7 x8_ _ e9)
      replace hc := cst_call hc hmc9 hms9
      refine h_callFi (va_runF (hGr.K.1 10 _ rfl).2 (As := []) (rest := [.int r4, .ref a1, .ref a7_, .ref a7_, .ref x6_]) ⟨hx, hb, hml, hown, hts⟩ (mgJ2_size l D A h7 x8_ _ e9 mc9 ms9 hmc9 hms9) (va_cwF 0 hts (lw_app (lw_fi q872 q875 q877 q106) (lw_meth q879)) rfl rfl rfl (fw_5 hGr) (by decide +kernel) ⟨Nat.le_of_ble_eq_true rfl, Nat.le_of_ble_eq_true rfl⟩) (h_preV hGr hr hS ec9 (by decide) (q := (RJ2, TJ2, 3)) rfl _) rfl rfl hl.1 rfl (lv_room (Nat.le_of_ble_eq_true rfl)) dX2_judges_47 ⟨(bud hc mm9 hmc hms).1, (bud hc mm9 hmc hms).2⟩) hS (fun rr uu H locs hw hr hS => ?_)
      obtain rfl : u9 = uu := (congrArg Prod.snd hw).symm
      obtain rfl : r9 = rr := (congrArg Prod.fst hw).symm
      refine lv_iconst (v := 1) hx hb dX2_judges_52 (by decide) ?_
      refine lv_isub hx hb dX2_judges_53 ?_
      obtain ⟨r10, u10, e10, hF⟩ := bnd_s hF
      have mm10 : hle u10 out.2 := (show Mo u10 _ from mo_gC (mo_bnd (moJ2_add u10 x6_ a7_) hle_rf (fun r11 u11 m11 => mo_gC (mo_bnd (moX2_latest u11 a0) m11 (fun r12 u12 m12 => mo_gC (mo_bnd (moX8_longer u12 r12) m12 (fun r13 u13 m13 => mo_gC (mo_bnd (moX2_replaces u13 a0 r13) m13 (fun r14 u14 m14 => mo_gQ (fun x15_ => mo_gC (mo_bnd (moJ2_size u14 x15_) m14 (fun r16 u16 m16 => mo_gI (fun x17_ => mo_ite (mo_pV m16 (fun h19 m19 => mo_ret m19)) (mo_ret m16)))))))))))))) _ hF
      obtain ⟨mc10, ms10, hmc10, hms10⟩ := up_of (moX9_init u9 a7_ a1 r4 (r9 - 1) _ e10)
      replace hc := cst_call hc hmc10 hms10
      refine h_callv (va_runIN (As := [.ref a1, .int r4, .int (r9 - 1)]) (rest := [.ref a7_, .ref x6_]) ⟨hx, hb, hml, hown, hts⟩ (mgX9_init l D A u9 a7_ a1 r4 (r9 - 1) _ e10 mc10 ms10 hmc10 hms10) (⟨va_cnB 3 hts (lw_meth q980) rfl rfl rfl (hGr.nw q978 rfl) (hts _ q140) (by decide +kernel) ⟨Nat.le_of_ble_eq_true rfl, Nat.le_of_ble_eq_true rfl⟩, rfl, (hts _ q979)⟩) (h_preS hGr hr hS _) rfl rfl hl.1 rfl (lv_room (Nat.le_of_ble_eq_true rfl)) dX2_judges_54 ⟨(bud hc mm10 hmc hms).1, (bud hc mm10 hmc hms).2⟩) hS (fun uu H locs hw hr hS => ?_)
      obtain rfl : u10 = uu := (congrArg Prod.snd hw).symm
      obtain ⟨fc11, ec11, hF⟩ := gC_s hF
      obtain ⟨r11, u11, e11, hF⟩ := bnd_s hF
      have mm11 : hle u11 out.2 := (show Mo u11 _ from mo_gC (mo_bnd (moX2_latest u11 a0) hle_rf (fun r12 u12 m12 => mo_gC (mo_bnd (moX8_longer u12 r12) m12 (fun r13 u13 m13 => mo_gC (mo_bnd (moX2_replaces u13 a0 r13) m13 (fun r14 u14 m14 => mo_gQ (fun x15_ => mo_gC (mo_bnd (moJ2_size u14 x15_) m14 (fun r16 u16 m16 => mo_gI (fun x17_ => mo_ite (mo_pV m16 (fun h19 m19 => mo_ret m19)) (mo_ret m16)))))))))))) _ hF
      obtain ⟨mc11, ms11, hmc11, hms11⟩ := up_of (moJ2_add u10 x6_ a7_ _ e11)
      replace hc := cst_call hc hmc11 hms11
      refine h_callFi (va_runF (hGr.K.1 10 _ rfl).2 (As := [.ref a7_]) (rest := []) ⟨hx, hb, hml, hown, hts⟩ (mgJ2_add l D A u10 x6_ a7_ _ e11 mc11 ms11 hmc11 hms11) (va_cwF 1 hts (lw_app (lw_fi q898 q901 q903 q106) (lw_meth q905)) rfl rfl rfl (fw_6 hGr) (by decide +kernel) ⟨Nat.le_of_ble_eq_true rfl, Nat.le_of_ble_eq_true rfl⟩) (h_preV hGr hr hS ec11 (by decide) (q := (RJ2, TJ2, 3)) rfl _) rfl rfl hl.1 rfl (lv_room (Nat.le_of_ble_eq_true rfl)) dX2_judges_57 ⟨(bud hc mm11 hmc hms).1, (bud hc mm11 hmc hms).2⟩) hS (fun rr uu H locs hw hr hS => ?_)
      obtain rfl : u11 = uu := (congrArg Prod.snd hw).symm
      obtain rfl : r11 = rr := (congrArg Prod.fst hw).symm
      refine lv_pop hx hb dX2_judges_62 rfl ?_
      refine lv_aload_n hx hb dX2_judges_63 rfl (lv_at hl 1 rfl) ?_
      refine lv_aload_n hx hb dX2_judges_64 rfl (lv_at hl 1 rfl) ?_
      obtain ⟨fc12, ec12, hF⟩ := gC_s hF
      obtain ⟨r12, u12, e12, hF⟩ := bnd_s hF
      have mm12 : hle u12 out.2 := (show Mo u12 _ from mo_gC (mo_bnd (moX8_longer u12 r12) hle_rf (fun r13 u13 m13 => mo_gC (mo_bnd (moX2_replaces u13 a0 r13) m13 (fun r14 u14 m14 => mo_gQ (fun x15_ => mo_gC (mo_bnd (moJ2_size u14 x15_) m14 (fun r16 u16 m16 => mo_gI (fun x17_ => mo_ite (mo_pV m16 (fun h19 m19 => mo_ret m19)) (mo_ret m16)))))))))) _ hF
      obtain ⟨mc12, ms12, hmc12, hms12⟩ := up_of (moX2_latest u11 a0 _ e12)
      replace hc := cst_call hc hmc12 hms12
      refine h_callr (va_runV (As := []) (rest := [.ref a0]) ⟨hx, hb, hml, hown, hts⟩ (mgX2_latest l D A u11 a0 _ e12 mc12 ms12 hmc12 hms12) (cwV 0 hts (lw_V q926 q928 qs13 q102 q929) rfl rfl rfl (by decide +kernel) ⟨Nat.le_of_ble_eq_true rfl, Nat.le_of_ble_eq_true rfl⟩) (h_preV hGr hr hS ec12 (by decide) (q := (RX2, TX2, 11)) rfl _) rfl rfl hl.1 rfl (lv_room (Nat.le_of_ble_eq_true rfl)) dX2_judges_65 ⟨(bud hc mm12 hmc hms).1, (bud hc mm12 hmc hms).2⟩) hS (fun rr uu H locs hw hr hS => ?_)
      obtain rfl : u12 = uu := (congrArg Prod.snd hw).symm
      obtain rfl : r12 = rr := (congrArg Prod.fst hw).symm
      obtain ⟨fc13, ec13, hF⟩ := gC_s hF
      obtain ⟨r13, u13, e13, hF⟩ := bnd_s hF
      have mm13 : hle u13 out.2 := (show Mo u13 _ from mo_gC (mo_bnd (moX2_replaces u13 a0 r13) hle_rf (fun r14 u14 m14 => mo_gQ (fun x15_ => mo_gC (mo_bnd (moJ2_size u14 x15_) m14 (fun r16 u16 m16 => mo_gI (fun x17_ => mo_ite (mo_pV m16 (fun h19 m19 => mo_ret m19)) (mo_ret m16)))))))) _ hF
      obtain ⟨mc13, ms13, hmc13, hms13⟩ := up_of (moX8_longer u12 r12 _ e13)
      replace hc := cst_call hc hmc13 hms13
      refine h_callr (va_runV (As := []) (rest := [.ref a0]) ⟨hx, hb, hml, hown, hts⟩ (mgX8_longer l D A u12 r12 _ e13 mc13 ms13 hmc13 hms13) (cwV 0 hts (lw_V q992 q993 q994 q139 q995) rfl rfl rfl (by decide +kernel) ⟨Nat.le_of_ble_eq_true rfl, Nat.le_of_ble_eq_true rfl⟩) (h_preV hGr hr hS ec13 (by decide) (q := (RX8, TX8, 3)) rfl _) rfl rfl hl.1 rfl (lv_room (Nat.le_of_ble_eq_true rfl)) dX2_judges_68 ⟨(bud hc mm13 hmc hms).1, (bud hc mm13 hmc hms).2⟩) hS (fun rr uu H locs hw hr hS => ?_)
      obtain rfl : u13 = uu := (congrArg Prod.snd hw).symm
      obtain rfl : r13 = rr := (congrArg Prod.fst hw).symm
      obtain ⟨fc14, ec14, hF⟩ := gC_s hF
      obtain ⟨r14, u14, e14, hF⟩ := bnd_s hF
      have mm14 : hle u14 out.2 := (show Mo u14 _ from mo_gQ (fun x15_ => mo_gC (mo_bnd (moJ2_size u14 x15_) hle_rf (fun r16 u16 m16 => mo_gI (fun x17_ => mo_ite (mo_pV m16 (fun h19 m19 => mo_ret m19)) (mo_ret m16)))))) _ hF
      obtain ⟨mc14, ms14, hmc14, hms14⟩ := up_of (moX2_replaces u13 a0 r13 _ e14)
      replace hc := cst_call hc hmc14 hms14
      refine h_callv (va_runV (As := [.ref r13]) (rest := []) ⟨hx, hb, hml, hown, hts⟩ (mgX2_replaces l D A u13 a0 r13 _ e14 mc14 ms14 hmc14 hms14) (cwV 1 hts (lw_V q955 q957 qs14 q102 q958) rfl rfl rfl (by decide +kernel) ⟨Nat.le_of_ble_eq_true rfl, Nat.le_of_ble_eq_true rfl⟩) (h_preV hGr hr hS ec14 (by decide) (q := (RX2, TX2, 11)) rfl _) rfl rfl hl.1 rfl (lv_room (Nat.le_of_ble_eq_true rfl)) dX2_judges_71 ⟨(bud hc mm14 hmc hms).1, (bud hc mm14 hmc hms).2⟩) hS (fun uu H locs hw hr hS => ?_)
      obtain rfl : u14 = uu := (congrArg Prod.snd hw).symm
      refine lv_aload_n hx hb dX2_judges_74 rfl (lv_at hl 1 rfl) ?_
      obtain ⟨fs15, x15_, e15, f15, hF⟩ := gQ_s hF
      refine h_get (C := RX2) (T := TX2) (N := 11) hx hb hts in_X2 hown hGr hr e15 (by decide) rfl 7 (by decide) (hts _ q582) (fun _ h9 => h9) f15 dX2_judges_75 ?_
      obtain ⟨fc16, ec16, hF⟩ := gC_s hF
      obtain ⟨r16, u16, e16, hF⟩ := bnd_s hF
      have mm16 : hle u16 out.2 := (show Mo u16 _ from mo_gI (fun x17_ => mo_ite (mo_pV hle_rf (fun h19 m19 => mo_ret m19)) (mo_ret hle_rf))) _ hF
      obtain ⟨mc16, ms16, hmc16, hms16⟩ := up_of (moJ2_size u14 x15_ _ e16)
      replace hc := cst_call hc hmc16 hms16
      refine h_callFi (va_runF (hGr.K.1 10 _ rfl).2 (As := []) (rest := []) ⟨hx, hb, hml, hown, hts⟩ (mgJ2_size l D A u14 x15_ _ e16 mc16 ms16 hmc16 hms16) (va_cwF 0 hts (lw_app (lw_fi q872 q875 q877 q106) (lw_meth q879)) rfl rfl rfl (fw_5 hGr) (by decide +kernel) ⟨Nat.le_of_ble_eq_true rfl, Nat.le_of_ble_eq_true rfl⟩) (h_preV hGr hr hS ec16 (by decide) (q := (RJ2, TJ2, 3)) rfl _) rfl rfl hl.1 rfl (lv_room (Nat.le_of_ble_eq_true rfl)) dX2_judges_78 ⟨(bud hc mm16 hmc hms).1, (bud hc mm16 hmc hms).2⟩) hS (fun rr uu H locs hw hr hS => ?_)
      obtain rfl : u16 = uu := (congrArg Prod.snd hw).symm
      obtain rfl : r16 = rr := (congrArg Prod.fst hw).symm
      refine lv_aload_n hx hb dX2_judges_83 rfl (lv_at hl 1 rfl) ?_
      obtain ⟨fs17, x17_, e17, f17, hF⟩ := gI_s hF
      refine h_get (C := RX2) (T := TX2) (N := 11) hx hb hts in_X2 hown hGr hr e17 (by decide) rfl 1 (by decide) (hts _ q565) (fun _ h9 => h9) f17 dX2_judges_84 ?_
      refine lv_icmp_ge (tgt := 92) hx hb dX2_judges_87 (by decide) (fun c18 => ?_) (fun c18 => ?_)
      · replace hF := it_t c18 hF
        refine lv_aload_n hx hb dX2_judges_92 rfl (lv_at hl 1 rfl) ?_
        refine lv_iconst (v := 4) hx hb dX2_judges_93 (by decide) ?_
        obtain ⟨fs19, e19, k19, lo19, hF⟩ := pV_s hF
        obtain ⟨h19, eh19⟩ : ∃ z, z = hPut u16 a0 (.inr (2, fs19.set 9 (.int 4))) := ⟨_, rfl⟩
        rw [← eh19] at hF
        refine h_put (C := RX2) (T := TX2) (N := 11) hx hb hts in_X2 tyX2 tyX2_ok nmX2 hown hGr hr hS e19 (by decide) rfl 9 (by decide) (hts _ q586) (fun _ h9 => h9) rfl (tyX2_ok 9 (by decide)) rfl rfl k19 lo19 dX2_judges_94 (fun H locs hr hS => ?_)
        rw [← eh19] at hr
        replace hc := cst_put hc eh19
        refine lv_iconst (v := 4) hx hb dX2_judges_97 (by decide) ?_
        have bz := bud_r hc hF hmc hms
        refine W.widen (k := mc) (n := ms) bz.1 bz.2 ?_
        exact W.iret (v := (4 : Int32)) hx hb hret (fun t ht hWm => ⟨⟨(4 : Int32), h19, rfl, Option.some.inj hF, h_end hGr hr hS ht hWm⟩, hS.F ht⟩) hS.2.2 dX2_judges_98
      · replace hF := it_f c18 hF
        refine lv_iconst (v := 0) hx hb dX2_judges_90 (by decide) ?_
        have bz := bud_r hc hF hmc hms
        refine W.widen (k := mc) (n := ms) bz.1 bz.2 ?_
        exact W.iret (v := (0 : Int32)) hx hb hret (fun t ht hWm => ⟨⟨(0 : Int32), u16, rfl, Option.some.inj hF, h_end hGr hr hS ht hWm⟩, hS.F ht⟩) hS.2.2 dX2_judges_91
    · replace hF := it_t c5 hF
      refine lv_aload_n hx hb dX2_judges_27 rfl (lv_at hl 1 rfl) ?_
      refine lv_iconst (v := 2) hx hb dX2_judges_28 (by decide) ?_
      obtain ⟨fc20, ec20, hF⟩ := gC_s hF
      obtain ⟨r20, u20, e20, hF⟩ := bnd_s hF
      have mm20 : hle u20 out.2 := (show Mo u20 _ from mo_ret hle_rf) _ hF
      obtain ⟨mc20, ms20, hmc20, hms20⟩ := up_of (moX2_ends u4 a0 (2 : Int32) _ e20)
      replace hc := cst_call hc hmc20 hms20
      refine h_calli (va_runV (As := [.int 2]) (rest := []) ⟨hx, hb, hml, hown, hts⟩ (mgX2_ends l D A u4 a0 (2 : Int32) _ e20 mc20 ms20 hmc20 hms20) (cwV 1 hts (lw_V q922 q924 qs12 q102 q925) rfl rfl rfl (by decide +kernel) ⟨Nat.le_of_ble_eq_true rfl, Nat.le_of_ble_eq_true rfl⟩) (h_preV hGr hr hS ec20 (by decide) (q := (RX2, TX2, 11)) rfl _) rfl rfl hl.1 rfl (lv_room (Nat.le_of_ble_eq_true rfl)) dX2_judges_29 ⟨(bud hc mm20 hmc hms).1, (bud hc mm20 hmc hms).2⟩) hS (fun rr uu H locs hw hr hS => ?_)
      obtain rfl : u20 = uu := (congrArg Prod.snd hw).symm
      obtain rfl : r20 = rr := (congrArg Prod.fst hw).symm
      have bz := bud_r hc hF hmc hms
      refine W.widen (k := mc) (n := ms) bz.1 bz.2 ?_
      exact W.iret (v := r20) hx hb hret (fun t ht hWm => ⟨⟨r20, u20, rfl, Option.some.inj hF, h_end hGr hr hS ht hWm⟩, hS.F ht⟩) hS.2.2 dX2_judges_32
  · replace hF := it_f c2 hF
    refine lv_aload_n hx hb dX2_judges_7 rfl (lv_at hl 0 rfl) ?_
    refine lv_iconst (v := 1) hx hb dX2_judges_8 (by decide) ?_
    obtain ⟨fc21, ec21, hF⟩ := gC_s hF
    obtain ⟨r21, u21, e21, hF⟩ := bnd_s hF
    have mm21 : hle u21 out.2 := (show Mo u21 _ from mo_ret hle_rf) _ hF
    obtain ⟨mc21, ms21, hmc21, hms21⟩ := up_of (moX2_ends u1 a0 (1 : Int32) _ e21)
    replace hc := cst_call hc hmc21 hms21
    refine h_calli (va_runV (As := [.int 1]) (rest := []) ⟨hx, hb, hml, hown, hts⟩ (mgX2_ends l D A u1 a0 (1 : Int32) _ e21 mc21 ms21 hmc21 hms21) (cwV 1 hts (lw_V q922 q924 qs12 q102 q925) rfl rfl rfl (by decide +kernel) ⟨Nat.le_of_ble_eq_true rfl, Nat.le_of_ble_eq_true rfl⟩) (h_preV hGr hr hS ec21 (by decide) (q := (RX2, TX2, 11)) rfl _) rfl rfl hl.1 rfl (lv_room (Nat.le_of_ble_eq_true rfl)) dX2_judges_9 ⟨(bud hc mm21 hmc hms).1, (bud hc mm21 hmc hms).2⟩) hS (fun rr uu H locs hw hr hS => ?_)
    obtain rfl : u21 = uu := (congrArg Prod.snd hw).symm
    obtain rfl : r21 = rr := (congrArg Prod.fst hw).symm
    have bz := bud_r hc hF hmc hms
    refine W.widen (k := mc) (n := ms) bz.1 bz.2 ?_
    exact W.iret (v := r21) hx hb hret (fun t ht hWm => ⟨⟨r21, u21, rfl, Option.some.inj hF, h_end hGr hr hS ht hWm⟩, hS.F ht⟩) hS.2.2 dX2_judges_12

def GX2_restarts_1 (R : Nat → Hp → Nat → Option (Int32 × Hp)) (n : Nat) (h : Hp) (b0 : Nat) : Option (Int32 × Hp) := gQ h b0 2 8 (fun x1_ => gC h x1_ 10 (bnd (GJ2_size h x1_) (fun r2 u2 => gI u2 b0 2 5 (fun x3_ => if x3_ < r2 then pV u2 b0 2 9 (.int 5) (fun h5 => some ((5 : Int32), h5)) else gI u2 b0 2 10 (fun x6_ => gI u2 b0 2 1 (fun x7_ => if x7_ ≤ x6_ then pV u2 b0 2 9 (.int 5) (fun h9 => some ((5 : Int32), h9)) else gI u2 b0 2 1 (fun x10_ => gI u2 b0 2 10 (fun x11_ => bnd (GX4_unit u2 x10_ x11_) (fun r12 u12 => gC u12 b0 2 (bnd (GX2_remainder n u12 b0 r12) (fun r13 u13 => gI u13 b0 2 10 (fun x14_ => pV u13 b0 2 10 (.int (x14_ + 1)) (fun h15 => gC h15 r13 4 (bnd (GX4_isNull n h15 r13) (fun r16 u16 => if r16 = 0 then gQ u16 b0 2 0 (fun x18_ => gC u16 x18_ 3 (bnd (GX3_product n u16 x18_ r13 r13) (fun r19 u19 => if r19 = 0 then R 1 u19 b0 else gC u19 b0 2 (bnd (GX2_begins u19 b0) (fun r21 u21 => gC u21 b0 2 (bnd (GX2_judges n u21 b0 r13) (fun r22 u22 => some (r22, u22)))))))) else R 1 u16 b0)))))))))))))))
def GX2_restarts_r : Nat → Nat → Hp → Nat → Option (Int32 × Hp)
  | 0 => fun _ _ _ => none
  | n + 1 => fun k => match k with  | _ => GX2_restarts_1 (GX2_restarts_r n) n
def GX2_restarts_0 (R : Nat → Hp → Nat → Option (Int32 × Hp)) (n : Nat) (h : Hp) (a0 : Nat) : Option (Int32 × Hp) := R 1 h a0
def GX2_restarts (n : Nat) (h : Hp) (a0 : Nat) : Option (Int32 × Hp) := GX2_restarts_0 (GX2_restarts_r n) n h a0
theorem moX2_restarts_r (n : Nat) : (∀ (h : Hp) (b0 : Nat), Mo h (GX2_restarts_r n 1 h b0)) := by
  induction n with
  | zero => exact (fun _ _ => mo_no)
  | succ n ih =>
    have ml1 := ih
    exact (fun h b0 => show Mo h (GX2_restarts_1 (GX2_restarts_r n) n h b0) from by unfold GX2_restarts_1; exact mo_gQ (fun x1_ => mo_gC (mo_bnd (moJ2_size h x1_) hle_rf (fun r2 u2 m2 => mo_gI (fun x3_ => mo_ite (mo_pV m2 (fun h5 m5 => mo_ret m5)) (mo_gI (fun x6_ => mo_gI (fun x7_ => mo_ite (mo_pV m2 (fun h9 m9 => mo_ret m9)) (mo_gI (fun x10_ => mo_gI (fun x11_ => mo_bnd (moX4_unit u2 x10_ x11_) m2 (fun r12 u12 m12 => mo_gC (mo_bnd (moX2_remainder n u12 b0 r12) m12 (fun r13 u13 m13 => mo_gI (fun x14_ => mo_pV m13 (fun h15 m15 => mo_gC (mo_bnd (moX4_isNull n h15 r13) m15 (fun r16 u16 m16 => mo_ite (mo_gQ (fun x18_ => mo_gC (mo_bnd (moX3_product n u16 x18_ r13 r13) m16 (fun r19 u19 m19 => mo_ite (mo_tr m19 (ml1 u19 b0)) (mo_gC (mo_bnd (moX2_begins u19 b0) m19 (fun r21 u21 m21 => mo_gC (mo_bnd (moX2_judges n u21 b0 r13) m21 (fun r22 u22 m22 => mo_ret m22))))))))) (mo_tr m16 (ml1 u16 b0))))))))))))))))))))
theorem moX2_restarts (n : Nat) (h : Hp) (a0 : Nat) : Mo h (GX2_restarts n h a0) := by
  have ml1 := moX2_restarts_r n
  unfold GX2_restarts GX2_restarts_0
  exact mo_tr hle_rf (ml1 h a0)
set_option maxHeartbeats 4000000 in
set_option maxRecDepth 100000 in
theorem mgX2_restarts (l : Launch) (D : HD) (A : Nat → Prop) (h : Hp) (n : Nat) (a0 : Nat) (out : Int32 × Hp) (hF : GX2_restarts n h a0 = some out) (mc ms : Nat) (hmc : hCc out.2 = hCc h + mc) (hms : hSl out.2 = hSl h + ms) : Met l yX2_restarts (ws_ yX2_restarts cX2_restarts 2 (some .int)) ({ frames := 8, cells := mc, slots := ms, locals := 233 }) (va_Pc [.ref a0] (hW D A h)) (va_Qi (fun r u => (r, u) = out) (hW D A) A) mc ms A := by
  refine Met.ofW (cc := cX2_restarts) (maxL := 2) (ret := (some .int)) (by decide +kernel) rfl ?_
  intro p e s m args below meth c s₁ B hml hv
  obtain ⟨rfl, hr, hGr⟩ := hv
  have hx := B.exec
  have hb := B.bytes
  have hret := B.returns
  have hts := atoms_spec (ws := (ws_ yX2_restarts cX2_restarts 2 (some .int))) B.pre
  have hts : ∀ w ∈ lw_all, w.before _ s = true := fun w h => hts w (List.mem_cons_of_mem _ h)
  have hown : s.vm.findClass RX2 = some m.cls := findClass_of_methodNamed B.named
  have hlocks := B.notSynchronized
  have hS : va_S A s.heap s.heap [] := va_S.rf
  have hc : cst h 0 0 h := cst_0
  have hl := lv_entry ([.ref a0]) (n := 2) (Nat.le_of_ble_eq_true rfl)
  rw [lg_entry_eq]
  generalize (lg_sl ([.ref a0]) ++ List.replicate (2 - (lg_sl ([.ref a0])).length) Slot.unset).toArray = ls at hl ⊢
  have hl : lv_has ls 2 [(0, .ref a0)] := hl
  obtain ⟨h0, eh0⟩ : ∃ z, z = h := ⟨_, rfl⟩
  rw [← eh0] at hmc hms
  have loop : ∀ n : Nat, (∀ (h : Hp) (b0 : Nat), GX2_restarts_r n 1 h b0 = some out → ∀ (H : Heap) (locs : List Loc) (cells slots : Nat), cst h0 cells slots h → hR D A h H → va_S A s.heap H locs → ∀ ls : Array Slot, lv_has ls 2 [(0, .ref b0)] → W p l e (headSpec (ws_ yX2_restarts cX2_restarts 2 (some .int)) ({ frames := 8, cells := mc, slots := ms, locals := 233 })).room s m ([.ref a0] : List Value).toArray below meth c H locs cells slots (MQ below (va_Qi (fun r u => (r, u) = out) (hW D A) A) ([.ref a0] : List Value).toArray s mc ms A) (F0 m 0 ls [])) := by
    intro n
    induction n with
    | zero => exact (fun _ _ h => nomatch h)
    | succ n ih =>
      have lp1 := ih
      have ml1 := moX2_restarts_r n
      intro h b0 hF H locs cells slots hc hr hS ls hl
      replace hF : GX2_restarts_1 (GX2_restarts_r n) n h b0 = some out := hF
      unfold GX2_restarts_1 at hF
      refine lv_aload_n hx hb dX2_restarts_0 rfl (lv_at hl 0 rfl) ?_
      obtain ⟨fs1, x1_, e1, f1, hF⟩ := gQ_s hF
      refine h_get (C := RX2) (T := TX2) (N := 11) hx hb hts in_X2 hown hGr hr e1 (by decide) rfl 8 (by decide) (hts _ q584) (fun _ h9 => h9) f1 dX2_restarts_1 ?_
      obtain ⟨fc2, ec2, hF⟩ := gC_s hF
      obtain ⟨r2, u2, e2, hF⟩ := bnd_s hF
      have mm2 : hle u2 out.2 := (show Mo u2 _ from mo_gI (fun x3_ => mo_ite (mo_pV hle_rf (fun h5 m5 => mo_ret m5)) (mo_gI (fun x6_ => mo_gI (fun x7_ => mo_ite (mo_pV hle_rf (fun h9 m9 => mo_ret m9)) (mo_gI (fun x10_ => mo_gI (fun x11_ => mo_bnd (moX4_unit u2 x10_ x11_) hle_rf (fun r12 u12 m12 => mo_gC (mo_bnd (moX2_remainder n u12 b0 r12) m12 (fun r13 u13 m13 => mo_gI (fun x14_ => mo_pV m13 (fun h15 m15 => mo_gC (mo_bnd (moX4_isNull n h15 r13) m15 (fun r16 u16 m16 => mo_ite (mo_gQ (fun x18_ => mo_gC (mo_bnd (moX3_product n u16 x18_ r13 r13) m16 (fun r19 u19 m19 => mo_ite (mo_tr m19 (ml1 u19 b0)) (mo_gC (mo_bnd (moX2_begins u19 b0) m19 (fun r21 u21 m21 => mo_gC (mo_bnd (moX2_judges n u21 b0 r13) m21 (fun r22 u22 m22 => mo_ret m22))))))))) (mo_tr m16 (ml1 u16 b0))))))))))))))))) _ hF
      obtain ⟨mc2, ms2, hmc2, hms2⟩ := up_of (moJ2_size h x1_ _ e2)
      replace hc := cst_call hc hmc2 hms2
      refine h_callFi (va_runF (hGr.K.1 10 _ rfl).2 (As := []) (rest := []) ⟨hx, hb, hml, hown, hts⟩ (mgJ2_size l D A h x1_ _ e2 mc2 ms2 hmc2 hms2) (va_cwF 0 hts (lw_app (lw_fi q872 q875 q877 q106) (lw_meth q879)) rfl rfl rfl (fw_5 hGr) (by decide +kernel) ⟨Nat.le_of_ble_eq_true rfl, Nat.le_of_ble_eq_true rfl⟩) (h_preV hGr hr hS ec2 (by decide) (q := (RJ2, TJ2, 3)) rfl _) rfl rfl hl.1 rfl (lv_room (Nat.le_of_ble_eq_true rfl)) dX2_restarts_4 ⟨(bud hc mm2 hmc hms).1, (bud hc mm2 hmc hms).2⟩) hS (fun rr uu H locs hw hr hS => ?_)
      obtain rfl : u2 = uu := (congrArg Prod.snd hw).symm
      obtain rfl : r2 = rr := (congrArg Prod.fst hw).symm
      refine lv_aload_n hx hb dX2_restarts_9 rfl (lv_at hl 0 rfl) ?_
      obtain ⟨fs3, x3_, e3, f3, hF⟩ := gI_s hF
      refine h_get (C := RX2) (T := TX2) (N := 11) hx hb hts in_X2 hown hGr hr e3 (by decide) rfl 5 (by decide) (hts _ q576) (fun _ h9 => h9) f3 dX2_restarts_10 ?_
      refine lv_icmp_gt (tgt := 85) hx hb dX2_restarts_13 (by decide) (fun c4 => ?_) (fun c4 => ?_)
      · replace hF := it_t c4 hF
        refine lv_aload_n hx hb dX2_restarts_85 rfl (lv_at hl 0 rfl) ?_
        refine lv_iconst (v := 5) hx hb dX2_restarts_86 (by decide) ?_
        obtain ⟨fs5, e5, k5, lo5, hF⟩ := pV_s hF
        obtain ⟨h5, eh5⟩ : ∃ z, z = hPut u2 b0 (.inr (2, fs5.set 9 (.int 5))) := ⟨_, rfl⟩
        rw [← eh5] at hF
        refine h_put (C := RX2) (T := TX2) (N := 11) hx hb hts in_X2 tyX2 tyX2_ok nmX2 hown hGr hr hS e5 (by decide) rfl 9 (by decide) (hts _ q586) (fun _ h9 => h9) rfl (tyX2_ok 9 (by decide)) rfl rfl k5 lo5 dX2_restarts_87 (fun H locs hr hS => ?_)
        rw [← eh5] at hr
        replace hc := cst_put hc eh5
        refine lv_iconst (v := 5) hx hb dX2_restarts_90 (by decide) ?_
        have bz := bud_r hc hF hmc hms
        refine W.widen (k := mc) (n := ms) bz.1 bz.2 ?_
        exact W.iret (v := (5 : Int32)) hx hb hret (fun t ht hWm => ⟨⟨(5 : Int32), h5, rfl, Option.some.inj hF, h_end hGr hr hS ht hWm⟩, hS.F ht⟩) hS.2.2 dX2_restarts_91
      · replace hF := it_f c4 hF
        refine lv_aload_n hx hb dX2_restarts_16 rfl (lv_at hl 0 rfl) ?_
        obtain ⟨fs6, x6_, e6, f6, hF⟩ := gI_s hF
        refine h_get (C := RX2) (T := TX2) (N := 11) hx hb hts in_X2 hown hGr hr e6 (by decide) rfl 10 (by decide) (hts _ q588) (fun _ h9 => h9) f6 dX2_restarts_17 ?_
        refine lv_aload_n hx hb dX2_restarts_20 rfl (lv_at hl 0 rfl) ?_
        obtain ⟨fs7, x7_, e7, f7, hF⟩ := gI_s hF
        refine h_get (C := RX2) (T := TX2) (N := 11) hx hb hts in_X2 hown hGr hr e7 (by decide) rfl 1 (by decide) (hts _ q565) (fun _ h9 => h9) f7 dX2_restarts_21 ?_
        refine lv_icmp_ge (tgt := 85) hx hb dX2_restarts_24 (by decide) (fun c8 => ?_) (fun c8 => ?_)
        · replace hF := it_t c8 hF
          refine lv_aload_n hx hb dX2_restarts_85 rfl (lv_at hl 0 rfl) ?_
          refine lv_iconst (v := 5) hx hb dX2_restarts_86 (by decide) ?_
          obtain ⟨fs9, e9, k9, lo9, hF⟩ := pV_s hF
          obtain ⟨h9, eh9⟩ : ∃ z, z = hPut u2 b0 (.inr (2, fs9.set 9 (.int 5))) := ⟨_, rfl⟩
          rw [← eh9] at hF
          refine h_put (C := RX2) (T := TX2) (N := 11) hx hb hts in_X2 tyX2 tyX2_ok nmX2 hown hGr hr hS e9 (by decide) rfl 9 (by decide) (hts _ q586) (fun _ h9 => h9) rfl (tyX2_ok 9 (by decide)) rfl rfl k9 lo9 dX2_restarts_87 (fun H locs hr hS => ?_)
          rw [← eh9] at hr
          replace hc := cst_put hc eh9
          refine lv_iconst (v := 5) hx hb dX2_restarts_90 (by decide) ?_
          have bz := bud_r hc hF hmc hms
          refine W.widen (k := mc) (n := ms) bz.1 bz.2 ?_
          exact W.iret (v := (5 : Int32)) hx hb hret (fun t ht hWm => ⟨⟨(5 : Int32), h9, rfl, Option.some.inj hF, h_end hGr hr hS ht hWm⟩, hS.F ht⟩) hS.2.2 dX2_restarts_91
        · replace hF := it_f c8 hF
          refine lv_aload_n hx hb dX2_restarts_27 rfl (lv_at hl 0 rfl) ?_
          refine lv_aload_n hx hb dX2_restarts_28 rfl (lv_at hl 0 rfl) ?_
          obtain ⟨fs10, x10_, e10, f10, hF⟩ := gI_s hF
          refine h_get (C := RX2) (T := TX2) (N := 11) hx hb hts in_X2 hown hGr hr e10 (by decide) rfl 1 (by decide) (hts _ q565) (fun _ h9 => h9) f10 dX2_restarts_29 ?_
          refine lv_aload_n hx hb dX2_restarts_32 rfl (lv_at hl 0 rfl) ?_
          obtain ⟨fs11, x11_, e11, f11, hF⟩ := gI_s hF
          refine h_get (C := RX2) (T := TX2) (N := 11) hx hb hts in_X2 hown hGr hr e11 (by decide) rfl 10 (by decide) (hts _ q588) (fun _ h9 => h9) f11 dX2_restarts_33 ?_
          obtain ⟨r12, u12, e12, hF⟩ := bnd_s hF
          have mm12 : hle u12 out.2 := (show Mo u12 _ from mo_gC (mo_bnd (moX2_remainder n u12 b0 r12) hle_rf (fun r13 u13 m13 => mo_gI (fun x14_ => mo_pV m13 (fun h15 m15 => mo_gC (mo_bnd (moX4_isNull n h15 r13) m15 (fun r16 u16 m16 => mo_ite (mo_gQ (fun x18_ => mo_gC (mo_bnd (moX3_product n u16 x18_ r13 r13) m16 (fun r19 u19 m19 => mo_ite (mo_tr m19 (ml1 u19 b0)) (mo_gC (mo_bnd (moX2_begins u19 b0) m19 (fun r21 u21 m21 => mo_gC (mo_bnd (moX2_judges n u21 b0 r13) m21 (fun r22 u22 m22 => mo_ret m22))))))))) (mo_tr m16 (ml1 u16 b0))))))))) _ hF
          obtain ⟨mc12, ms12, hmc12, hms12⟩ := up_of (moX4_unit u2 x10_ x11_ _ e12)
          replace hc := cst_call hc hmc12 hms12
          refine h_callr (va_runS (As := [.int x10_, .int x11_]) (rest := [.ref b0]) ⟨hx, hb, hml, hown, hts⟩ (mgX4_unit l D A u2 x10_ x11_ _ e12 mc12 ms12 hmc12 hms12) (va_cwS 2 hts (lw_S q1004 q1005 q123 q1006) rfl rfl rfl (by decide +kernel) ⟨Nat.le_of_ble_eq_true rfl, Nat.le_of_ble_eq_true rfl⟩) (h_preS hGr hr hS _) rfl rfl hl.1 rfl (lv_room (Nat.le_of_ble_eq_true rfl)) dX2_restarts_36 ⟨(bud hc mm12 hmc hms).1, (bud hc mm12 hmc hms).2⟩) hS (fun rr uu H locs hw hr hS => ?_)
          obtain rfl : u12 = uu := (congrArg Prod.snd hw).symm
          obtain rfl : r12 = rr := (congrArg Prod.fst hw).symm
          obtain ⟨fc13, ec13, hF⟩ := gC_s hF
          obtain ⟨r13, u13, e13, hF⟩ := bnd_s hF
          have mm13 : hle u13 out.2 := (show Mo u13 _ from mo_gI (fun x14_ => mo_pV hle_rf (fun h15 m15 => mo_gC (mo_bnd (moX4_isNull n h15 r13) m15 (fun r16 u16 m16 => mo_ite (mo_gQ (fun x18_ => mo_gC (mo_bnd (moX3_product n u16 x18_ r13 r13) m16 (fun r19 u19 m19 => mo_ite (mo_tr m19 (ml1 u19 b0)) (mo_gC (mo_bnd (moX2_begins u19 b0) m19 (fun r21 u21 m21 => mo_gC (mo_bnd (moX2_judges n u21 b0 r13) m21 (fun r22 u22 m22 => mo_ret m22))))))))) (mo_tr m16 (ml1 u16 b0))))))) _ hF
          obtain ⟨mc13, ms13, hmc13, hms13⟩ := up_of (moX2_remainder n u12 b0 r12 _ e13)
          replace hc := cst_call hc hmc13 hms13
          refine h_callr (va_runV (As := [.ref r12]) (rest := []) ⟨hx, hb, hml, hown, hts⟩ (mgX2_remainder l D A u12 n b0 r12 _ e13 mc13 ms13 hmc13 hms13) (cwV 1 hts (lw_V q1009 q1010 q1011 q102 q1012) rfl rfl rfl (by decide +kernel) ⟨Nat.le_of_ble_eq_true rfl, Nat.le_of_ble_eq_true rfl⟩) (h_preV hGr hr hS ec13 (by decide) (q := (RX2, TX2, 11)) rfl _) rfl rfl hl.1 rfl (lv_room (Nat.le_of_ble_eq_true rfl)) dX2_restarts_39 ⟨(bud hc mm13 hmc hms).1, (bud hc mm13 hmc hms).2⟩) hS (fun rr uu H locs hw hr hS => ?_)
          obtain rfl : u13 = uu := (congrArg Prod.snd hw).symm
          obtain rfl : r13 = rr := (congrArg Prod.fst hw).symm
          refine lv_astore_n (lv' := [(1, .ref r13), (0, .ref b0)]) hx hb dX2_restarts_42 rfl hl (by decide) rfl (fun ls hl => ?_)
          refine lv_aload_n hx hb dX2_restarts_43 rfl (lv_at hl 1 rfl) ?_
          refine lv_dup hx hb dX2_restarts_44 rfl ?_
          obtain ⟨fs14, x14_, e14, f14, hF⟩ := gI_s hF
          refine h_get (C := RX2) (T := TX2) (N := 11) hx hb hts in_X2 hown hGr hr e14 (by decide) rfl 10 (by decide) (hts _ q588) (fun _ h9 => h9) f14 dX2_restarts_45 ?_
          refine lv_iconst (v := 1) hx hb dX2_restarts_48 (by decide) ?_
          refine lv_iadd hx hb dX2_restarts_49 ?_
          obtain ⟨fs15, e15, k15, lo15, hF⟩ := pV_s hF
          obtain ⟨h15, eh15⟩ : ∃ z, z = hPut u13 b0 (.inr (2, fs15.set 10 (.int (x14_ + 1)))) := ⟨_, rfl⟩
          rw [← eh15] at hF
          refine h_put (C := RX2) (T := TX2) (N := 11) hx hb hts in_X2 tyX2 tyX2_ok nmX2 hown hGr hr hS e15 (by decide) rfl 10 (by decide) (hts _ q588) (fun _ h9 => h9) rfl (tyX2_ok 10 (by decide)) rfl rfl k15 lo15 dX2_restarts_50 (fun H locs hr hS => ?_)
          rw [← eh15] at hr
          replace hc := cst_put hc eh15
          refine lv_aload_n hx hb dX2_restarts_53 rfl (lv_at hl 0 rfl) ?_
          obtain ⟨fc16, ec16, hF⟩ := gC_s hF
          obtain ⟨r16, u16, e16, hF⟩ := bnd_s hF
          have mm16 : hle u16 out.2 := (show Mo u16 _ from mo_ite (mo_gQ (fun x18_ => mo_gC (mo_bnd (moX3_product n u16 x18_ r13 r13) hle_rf (fun r19 u19 m19 => mo_ite (mo_tr m19 (ml1 u19 b0)) (mo_gC (mo_bnd (moX2_begins u19 b0) m19 (fun r21 u21 m21 => mo_gC (mo_bnd (moX2_judges n u21 b0 r13) m21 (fun r22 u22 m22 => mo_ret m22))))))))) (mo_tr hle_rf (ml1 u16 b0))) _ hF
          obtain ⟨mc16, ms16, hmc16, hms16⟩ := up_of (moX4_isNull n h15 r13 _ e16)
          replace hc := cst_call hc hmc16 hms16
          refine h_calli (va_runV (As := []) (rest := []) ⟨hx, hb, hml, hown, hts⟩ (mgX4_isNull l D A h15 n r13 _ e16 mc16 ms16 hmc16 hms16) (cwV 0 hts (lw_V q918 q919 q920 q123 q921) rfl rfl rfl (by decide +kernel) ⟨Nat.le_of_ble_eq_true rfl, Nat.le_of_ble_eq_true rfl⟩) (h_preV hGr hr hS ec16 (by decide) (q := (RX4, TX4, 1)) rfl _) rfl rfl hl.1 rfl (lv_room (Nat.le_of_ble_eq_true rfl)) dX2_restarts_54 ⟨(bud hc mm16 hmc hms).1, (bud hc mm16 hmc hms).2⟩) hS (fun rr uu H locs hw hr hS => ?_)
          obtain rfl : u16 = uu := (congrArg Prod.snd hw).symm
          obtain rfl : r16 = rr := (congrArg Prod.fst hw).symm
          refine lv_if_ne (tgt := 0) hx hb dX2_restarts_57 (by decide) (fun c17 => ?_) (fun c17 => ?_)
          · replace hF := it_f c17 hF
            exact lp1 u16 b0 hF _ _ _ _ hc hr hS ls (lv_sub hl [1] rfl)
          · replace hF := it_t c17 hF
            refine lv_aload_n hx hb dX2_restarts_60 rfl (lv_at hl 1 rfl) ?_
            obtain ⟨fs18, x18_, e18, f18, hF⟩ := gQ_s hF
            refine h_get (C := RX2) (T := TX2) (N := 11) hx hb hts in_X2 hown hGr hr e18 (by decide) rfl 0 (by decide) (hts _ q562) (fun _ h9 => h9) f18 dX2_restarts_61 ?_
            refine lv_aload_n hx hb dX2_restarts_64 rfl (lv_at hl 0 rfl) ?_
            refine lv_aload_n hx hb dX2_restarts_65 rfl (lv_at hl 0 rfl) ?_
            obtain ⟨fc19, ec19, hF⟩ := gC_s hF
            obtain ⟨r19, u19, e19, hF⟩ := bnd_s hF
            have mm19 : hle u19 out.2 := (show Mo u19 _ from mo_ite (mo_tr hle_rf (ml1 u19 b0)) (mo_gC (mo_bnd (moX2_begins u19 b0) hle_rf (fun r21 u21 m21 => mo_gC (mo_bnd (moX2_judges n u21 b0 r13) m21 (fun r22 u22 m22 => mo_ret m22)))))) _ hF
            obtain ⟨mc19, ms19, hmc19, hms19⟩ := up_of (moX3_product n u16 x18_ r13 r13 _ e19)
            replace hc := cst_call hc hmc19 hms19
            refine h_calli (va_runV (As := [.ref r13, .ref r13]) (rest := []) ⟨hx, hb, hml, hown, hts⟩ (mgX3_product l D A u16 n x18_ r13 r13 _ e19 mc19 ms19 hmc19 hms19) (cwV 2 hts (lw_V q968 q969 q970 q103 q971) rfl rfl rfl (by decide +kernel) ⟨Nat.le_of_ble_eq_true rfl, Nat.le_of_ble_eq_true rfl⟩) (h_preV hGr hr hS ec19 (by decide) (q := (RX3, TX3, 2)) rfl _) rfl rfl hl.1 rfl (lv_room (Nat.le_of_ble_eq_true rfl)) dX2_restarts_66 ⟨(bud hc mm19 hmc hms).1, (bud hc mm19 hmc hms).2⟩) hS (fun rr uu H locs hw hr hS => ?_)
            obtain rfl : u19 = uu := (congrArg Prod.snd hw).symm
            obtain rfl : r19 = rr := (congrArg Prod.fst hw).symm
            refine lv_if_ne (tgt := 75) hx hb dX2_restarts_69 (by decide) (fun c20 => ?_) (fun c20 => ?_)
            · replace hF := it_f c20 hF
              refine lv_aload_n hx hb dX2_restarts_75 rfl (lv_at hl 1 rfl) ?_
              obtain ⟨fc21, ec21, hF⟩ := gC_s hF
              obtain ⟨r21, u21, e21, hF⟩ := bnd_s hF
              have mm21 : hle u21 out.2 := (show Mo u21 _ from mo_gC (mo_bnd (moX2_judges n u21 b0 r13) hle_rf (fun r22 u22 m22 => mo_ret m22))) _ hF
              obtain ⟨mc21, ms21, hmc21, hms21⟩ := up_of (moX2_begins u19 b0 _ e21)
              replace hc := cst_call hc hmc21 hms21
              refine h_callv (va_runV (As := []) (rest := []) ⟨hx, hb, hml, hown, hts⟩ (mgX2_begins l D A u19 b0 _ e21 mc21 ms21 hmc21 hms21) (cwV 0 hts (lw_V q865 q867 qs8 q102 q868) rfl rfl rfl (by decide +kernel) ⟨Nat.le_of_ble_eq_true rfl, Nat.le_of_ble_eq_true rfl⟩) (h_preV hGr hr hS ec21 (by decide) (q := (RX2, TX2, 11)) rfl _) rfl rfl hl.1 rfl (lv_room (Nat.le_of_ble_eq_true rfl)) dX2_restarts_76 ⟨(bud hc mm21 hmc hms).1, (bud hc mm21 hmc hms).2⟩) hS (fun uu H locs hw hr hS => ?_)
              obtain rfl : u21 = uu := (congrArg Prod.snd hw).symm
              refine lv_aload_n hx hb dX2_restarts_79 rfl (lv_at hl 1 rfl) ?_
              refine lv_aload_n hx hb dX2_restarts_80 rfl (lv_at hl 0 rfl) ?_
              obtain ⟨fc22, ec22, hF⟩ := gC_s hF
              obtain ⟨r22, u22, e22, hF⟩ := bnd_s hF
              have mm22 : hle u22 out.2 := (show Mo u22 _ from mo_ret hle_rf) _ hF
              obtain ⟨mc22, ms22, hmc22, hms22⟩ := up_of (moX2_judges n u21 b0 r13 _ e22)
              replace hc := cst_call hc hmc22 hms22
              refine h_calli (va_runV (As := [.ref r13]) (rest := []) ⟨hx, hb, hml, hown, hts⟩ (mgX2_judges l D A u21 n b0 r13 _ e22 mc22 ms22 hmc22 hms22) (cwV 1 hts (lw_V q914 q916 qs11 q102 q917) rfl rfl rfl (by decide +kernel) ⟨Nat.le_of_ble_eq_true rfl, Nat.le_of_ble_eq_true rfl⟩) (h_preV hGr hr hS ec22 (by decide) (q := (RX2, TX2, 11)) rfl _) rfl rfl hl.1 rfl (lv_room (Nat.le_of_ble_eq_true rfl)) dX2_restarts_81 ⟨(bud hc mm22 hmc hms).1, (bud hc mm22 hmc hms).2⟩) hS (fun rr uu H locs hw hr hS => ?_)
              obtain rfl : u22 = uu := (congrArg Prod.snd hw).symm
              obtain rfl : r22 = rr := (congrArg Prod.fst hw).symm
              have bz := bud_r hc hF hmc hms
              refine W.widen (k := mc) (n := ms) bz.1 bz.2 ?_
              exact W.iret (v := r22) hx hb hret (fun t ht hWm => ⟨⟨r22, u22, rfl, Option.some.inj hF, h_end hGr hr hS ht hWm⟩, hS.F ht⟩) hS.2.2 dX2_restarts_84
            · replace hF := it_t c20 hF
              refine lv_goto (tgt := 0) hx hb dX2_restarts_72 (by decide) ?_
              exact lp1 u19 b0 hF _ _ _ _ hc hr hS ls (lv_sub hl [1] rfl)
  have lp1 := loop n
  have ml1 := moX2_restarts_r n
  have hc : cst h0 0 0 h := by rw [eh0]; exact cst_0
  unfold GX2_restarts GX2_restarts_0 at hF
  exact lp1 h a0 hF _ _ _ _ hc hr hS ls (lv_sub hl [0] rfl)

def GX2_step (n : Nat) (h : Hp) (a0 : Nat) : Option (Int32 × Hp) := gI h a0 2 9 (fun x1_ => if x1_ ≤ 0 then gQ h a0 2 8 (fun x3_ => gC h x3_ 10 (bnd (GJ2_isEmpty h x3_) (fun r4 u4 => if r4 = 0 then gC u4 a0 2 (bnd (GX2_latest u4 a0) (fun r6 u6 => gC u6 r6 7 (bnd (GX8_cause u6 r6) (fun r7 u7 => if r7 ≤ 0 then gC u7 a0 2 (bnd (GX2_latest u7 a0) (fun r9 u9 => gC u9 r9 7 (bnd (GX8_many u9 r9) (fun r10 u10 => gI u10 a0 2 4 (fun x11_ => if r10 < x11_ then gC u10 a0 2 (bnd (GX2_candidate n u10 a0) (fun r13 u13 => gC u13 a0 2 (bnd (GX2_judges n u13 a0 r13) (fun r14 u14 => some (r14, u14))))) else gC u10 a0 2 (bnd (GX2_ends u10 a0 (3 : Int32)) (fun r15 u15 => some (r15, u15)))))))) else gC u7 a0 2 (bnd (GX2_restarts n u7 a0) (fun r16 u16 => some (r16, u16))))))) else gC u4 a0 2 (bnd (GX2_begins u4 a0) (fun r17 u17 => gQ u17 a0 2 3 (fun x18_ => gC u17 a0 2 (bnd (GX2_judges n u17 a0 x18_) (fun r19 u19 => some (r19, u19))))))))) else gI h a0 2 9 (fun x20_ => some (x20_, h)))
theorem moX2_step (n : Nat) (h : Hp) (a0 : Nat) : Mo h (GX2_step n h a0) := by
  unfold GX2_step
  exact mo_gI (fun x1_ => mo_ite (mo_gQ (fun x3_ => mo_gC (mo_bnd (moJ2_isEmpty h x3_) hle_rf (fun r4 u4 m4 => mo_ite (mo_gC (mo_bnd (moX2_latest u4 a0) m4 (fun r6 u6 m6 => mo_gC (mo_bnd (moX8_cause u6 r6) m6 (fun r7 u7 m7 => mo_ite (mo_gC (mo_bnd (moX2_latest u7 a0) m7 (fun r9 u9 m9 => mo_gC (mo_bnd (moX8_many u9 r9) m9 (fun r10 u10 m10 => mo_gI (fun x11_ => mo_ite (mo_gC (mo_bnd (moX2_candidate n u10 a0) m10 (fun r13 u13 m13 => mo_gC (mo_bnd (moX2_judges n u13 a0 r13) m13 (fun r14 u14 m14 => mo_ret m14))))) (mo_gC (mo_bnd (moX2_ends u10 a0 (3 : Int32)) m10 (fun r15 u15 m15 => mo_ret m15))))))))) (mo_gC (mo_bnd (moX2_restarts n u7 a0) m7 (fun r16 u16 m16 => mo_ret m16)))))))) (mo_gC (mo_bnd (moX2_begins u4 a0) m4 (fun r17 u17 m17 => mo_gQ (fun x18_ => mo_gC (mo_bnd (moX2_judges n u17 a0 x18_) m17 (fun r19 u19 m19 => mo_ret m19)))))))))) (mo_gI (fun x20_ => mo_ret hle_rf)))
set_option maxHeartbeats 4000000 in
set_option maxRecDepth 100000 in
theorem mgX2_step (l : Launch) (D : HD) (A : Nat → Prop) (h : Hp) (n : Nat) (a0 : Nat) (out : Int32 × Hp) (hF : GX2_step n h a0 = some out) (mc ms : Nat) (hmc : hCc out.2 = hCc h + mc) (hms : hSl out.2 = hSl h + ms) : Met l yX2_step (ws_ yX2_step cX2_step 1 (some .int)) ({ frames := 9, cells := mc, slots := ms, locals := 254 }) (va_Pc [.ref a0] (hW D A h)) (va_Qi (fun r u => (r, u) = out) (hW D A) A) mc ms A := by
  refine Met.ofW (cc := cX2_step) (maxL := 1) (ret := (some .int)) (by decide +kernel) rfl ?_
  intro p e s m args below meth c s₁ B hml hv
  obtain ⟨rfl, hr, hGr⟩ := hv
  have hx := B.exec
  have hb := B.bytes
  have hret := B.returns
  have hts := atoms_spec (ws := (ws_ yX2_step cX2_step 1 (some .int))) B.pre
  have hts : ∀ w ∈ lw_all, w.before _ s = true := fun w h => hts w (List.mem_cons_of_mem _ h)
  have hown : s.vm.findClass RX2 = some m.cls := findClass_of_methodNamed B.named
  have hlocks := B.notSynchronized
  have hS : va_S A s.heap s.heap [] := va_S.rf
  have hc : cst h 0 0 h := cst_0
  have hl := lv_entry ([.ref a0]) (n := 1) (Nat.le_of_ble_eq_true rfl)
  rw [lg_entry_eq]
  generalize (lg_sl ([.ref a0]) ++ List.replicate (1 - (lg_sl ([.ref a0])).length) Slot.unset).toArray = ls at hl ⊢
  have hl : lv_has ls 1 [(0, .ref a0)] := hl
  unfold GX2_step at hF
  refine lv_aload_n hx hb dX2_step_0 rfl (lv_at hl 0 rfl) ?_
  obtain ⟨fs1, x1_, e1, f1, hF⟩ := gI_s hF
  refine h_get (C := RX2) (T := TX2) (N := 11) hx hb hts in_X2 hown hGr hr e1 (by decide) rfl 9 (by decide) (hts _ q586) (fun _ h9 => h9) f1 dX2_step_1 ?_
  refine lv_if_le (tgt := 12) hx hb dX2_step_4 (by decide) (fun c2 => ?_) (fun c2 => ?_)
  · replace hF := it_t c2 hF
    refine lv_aload_n hx hb dX2_step_12 rfl (lv_at hl 0 rfl) ?_
    obtain ⟨fs3, x3_, e3, f3, hF⟩ := gQ_s hF
    refine h_get (C := RX2) (T := TX2) (N := 11) hx hb hts in_X2 hown hGr hr e3 (by decide) rfl 8 (by decide) (hts _ q584) (fun _ h9 => h9) f3 dX2_step_13 ?_
    obtain ⟨fc4, ec4, hF⟩ := gC_s hF
    obtain ⟨r4, u4, e4, hF⟩ := bnd_s hF
    have mm4 : hle u4 out.2 := (show Mo u4 _ from mo_ite (mo_gC (mo_bnd (moX2_latest u4 a0) hle_rf (fun r6 u6 m6 => mo_gC (mo_bnd (moX8_cause u6 r6) m6 (fun r7 u7 m7 => mo_ite (mo_gC (mo_bnd (moX2_latest u7 a0) m7 (fun r9 u9 m9 => mo_gC (mo_bnd (moX8_many u9 r9) m9 (fun r10 u10 m10 => mo_gI (fun x11_ => mo_ite (mo_gC (mo_bnd (moX2_candidate n u10 a0) m10 (fun r13 u13 m13 => mo_gC (mo_bnd (moX2_judges n u13 a0 r13) m13 (fun r14 u14 m14 => mo_ret m14))))) (mo_gC (mo_bnd (moX2_ends u10 a0 (3 : Int32)) m10 (fun r15 u15 m15 => mo_ret m15))))))))) (mo_gC (mo_bnd (moX2_restarts n u7 a0) m7 (fun r16 u16 m16 => mo_ret m16)))))))) (mo_gC (mo_bnd (moX2_begins u4 a0) hle_rf (fun r17 u17 m17 => mo_gQ (fun x18_ => mo_gC (mo_bnd (moX2_judges n u17 a0 x18_) m17 (fun r19 u19 m19 => mo_ret m19))))))) _ hF
    obtain ⟨mc4, ms4, hmc4, hms4⟩ := up_of (moJ2_isEmpty h x3_ _ e4)
    replace hc := cst_call hc hmc4 hms4
    refine h_callFi (va_runF (hGr.K.1 10 _ rfl).2 (As := []) (rest := []) ⟨hx, hb, hml, hown, hts⟩ (mgJ2_isEmpty l D A h x3_ _ e4 mc4 ms4 hmc4 hms4) (va_cwF 0 hts (lw_app (lw_fi q857 q860 q862 q106) (lw_meth q864)) rfl rfl rfl (fw_4 hGr) (by decide +kernel) ⟨Nat.le_of_ble_eq_true rfl, Nat.le_of_ble_eq_true rfl⟩) (h_preV hGr hr hS ec4 (by decide) (q := (RJ2, TJ2, 3)) rfl _) rfl rfl hl.1 rfl (lv_room (Nat.le_of_ble_eq_true rfl)) dX2_step_16 ⟨(bud hc mm4 hmc hms).1, (bud hc mm4 hmc hms).2⟩) hS (fun rr uu H locs hw hr hS => ?_)
    obtain rfl : u4 = uu := (congrArg Prod.snd hw).symm
    obtain rfl : r4 = rr := (congrArg Prod.fst hw).symm
    refine lv_if_eq (tgt := 37) hx hb dX2_step_21 (by decide) (fun c5 => ?_) (fun c5 => ?_)
    · replace hF := it_t c5 hF
      refine lv_aload_n hx hb dX2_step_37 rfl (lv_at hl 0 rfl) ?_
      obtain ⟨fc6, ec6, hF⟩ := gC_s hF
      obtain ⟨r6, u6, e6, hF⟩ := bnd_s hF
      have mm6 : hle u6 out.2 := (show Mo u6 _ from mo_gC (mo_bnd (moX8_cause u6 r6) hle_rf (fun r7 u7 m7 => mo_ite (mo_gC (mo_bnd (moX2_latest u7 a0) m7 (fun r9 u9 m9 => mo_gC (mo_bnd (moX8_many u9 r9) m9 (fun r10 u10 m10 => mo_gI (fun x11_ => mo_ite (mo_gC (mo_bnd (moX2_candidate n u10 a0) m10 (fun r13 u13 m13 => mo_gC (mo_bnd (moX2_judges n u13 a0 r13) m13 (fun r14 u14 m14 => mo_ret m14))))) (mo_gC (mo_bnd (moX2_ends u10 a0 (3 : Int32)) m10 (fun r15 u15 m15 => mo_ret m15))))))))) (mo_gC (mo_bnd (moX2_restarts n u7 a0) m7 (fun r16 u16 m16 => mo_ret m16)))))) _ hF
      obtain ⟨mc6, ms6, hmc6, hms6⟩ := up_of (moX2_latest u4 a0 _ e6)
      replace hc := cst_call hc hmc6 hms6
      refine h_callr (va_runV (As := []) (rest := []) ⟨hx, hb, hml, hown, hts⟩ (mgX2_latest l D A u4 a0 _ e6 mc6 ms6 hmc6 hms6) (cwV 0 hts (lw_V q926 q928 qs13 q102 q929) rfl rfl rfl (by decide +kernel) ⟨Nat.le_of_ble_eq_true rfl, Nat.le_of_ble_eq_true rfl⟩) (h_preV hGr hr hS ec6 (by decide) (q := (RX2, TX2, 11)) rfl _) rfl rfl hl.1 rfl (lv_room (Nat.le_of_ble_eq_true rfl)) dX2_step_38 ⟨(bud hc mm6 hmc hms).1, (bud hc mm6 hmc hms).2⟩) hS (fun rr uu H locs hw hr hS => ?_)
      obtain rfl : u6 = uu := (congrArg Prod.snd hw).symm
      obtain rfl : r6 = rr := (congrArg Prod.fst hw).symm
      obtain ⟨fc7, ec7, hF⟩ := gC_s hF
      obtain ⟨r7, u7, e7, hF⟩ := bnd_s hF
      have mm7 : hle u7 out.2 := (show Mo u7 _ from mo_ite (mo_gC (mo_bnd (moX2_latest u7 a0) hle_rf (fun r9 u9 m9 => mo_gC (mo_bnd (moX8_many u9 r9) m9 (fun r10 u10 m10 => mo_gI (fun x11_ => mo_ite (mo_gC (mo_bnd (moX2_candidate n u10 a0) m10 (fun r13 u13 m13 => mo_gC (mo_bnd (moX2_judges n u13 a0 r13) m13 (fun r14 u14 m14 => mo_ret m14))))) (mo_gC (mo_bnd (moX2_ends u10 a0 (3 : Int32)) m10 (fun r15 u15 m15 => mo_ret m15))))))))) (mo_gC (mo_bnd (moX2_restarts n u7 a0) hle_rf (fun r16 u16 m16 => mo_ret m16)))) _ hF
      obtain ⟨mc7, ms7, hmc7, hms7⟩ := up_of (moX8_cause u6 r6 _ e7)
      replace hc := cst_call hc hmc7 hms7
      refine h_calli (va_runV (As := []) (rest := []) ⟨hx, hb, hml, hown, hts⟩ (mgX8_cause l D A u6 r6 _ e7 mc7 ms7 hmc7 hms7) (cwV 0 hts (lw_V q996 q997 q998 q139 q999) rfl rfl rfl (by decide +kernel) ⟨Nat.le_of_ble_eq_true rfl, Nat.le_of_ble_eq_true rfl⟩) (h_preV hGr hr hS ec7 (by decide) (q := (RX8, TX8, 3)) rfl _) rfl rfl hl.1 rfl (lv_room (Nat.le_of_ble_eq_true rfl)) dX2_step_41 ⟨(bud hc mm7 hmc hms).1, (bud hc mm7 hmc hms).2⟩) hS (fun rr uu H locs hw hr hS => ?_)
      obtain rfl : u7 = uu := (congrArg Prod.snd hw).symm
      obtain rfl : r7 = rr := (congrArg Prod.fst hw).symm
      refine lv_if_le (tgt := 52) hx hb dX2_step_44 (by decide) (fun c8 => ?_) (fun c8 => ?_)
      · replace hF := it_t c8 hF
        refine lv_aload_n hx hb dX2_step_52 rfl (lv_at hl 0 rfl) ?_
        obtain ⟨fc9, ec9, hF⟩ := gC_s hF
        obtain ⟨r9, u9, e9, hF⟩ := bnd_s hF
        have mm9 : hle u9 out.2 := (show Mo u9 _ from mo_gC (mo_bnd (moX8_many u9 r9) hle_rf (fun r10 u10 m10 => mo_gI (fun x11_ => mo_ite (mo_gC (mo_bnd (moX2_candidate n u10 a0) m10 (fun r13 u13 m13 => mo_gC (mo_bnd (moX2_judges n u13 a0 r13) m13 (fun r14 u14 m14 => mo_ret m14))))) (mo_gC (mo_bnd (moX2_ends u10 a0 (3 : Int32)) m10 (fun r15 u15 m15 => mo_ret m15))))))) _ hF
        obtain ⟨mc9, ms9, hmc9, hms9⟩ := up_of (moX2_latest u7 a0 _ e9)
        replace hc := cst_call hc hmc9 hms9
        refine h_callr (va_runV (As := []) (rest := []) ⟨hx, hb, hml, hown, hts⟩ (mgX2_latest l D A u7 a0 _ e9 mc9 ms9 hmc9 hms9) (cwV 0 hts (lw_V q926 q928 qs13 q102 q929) rfl rfl rfl (by decide +kernel) ⟨Nat.le_of_ble_eq_true rfl, Nat.le_of_ble_eq_true rfl⟩) (h_preV hGr hr hS ec9 (by decide) (q := (RX2, TX2, 11)) rfl _) rfl rfl hl.1 rfl (lv_room (Nat.le_of_ble_eq_true rfl)) dX2_step_53 ⟨(bud hc mm9 hmc hms).1, (bud hc mm9 hmc hms).2⟩) hS (fun rr uu H locs hw hr hS => ?_)
        obtain rfl : u9 = uu := (congrArg Prod.snd hw).symm
        obtain rfl : r9 = rr := (congrArg Prod.fst hw).symm
        obtain ⟨fc10, ec10, hF⟩ := gC_s hF
        obtain ⟨r10, u10, e10, hF⟩ := bnd_s hF
        have mm10 : hle u10 out.2 := (show Mo u10 _ from mo_gI (fun x11_ => mo_ite (mo_gC (mo_bnd (moX2_candidate n u10 a0) hle_rf (fun r13 u13 m13 => mo_gC (mo_bnd (moX2_judges n u13 a0 r13) m13 (fun r14 u14 m14 => mo_ret m14))))) (mo_gC (mo_bnd (moX2_ends u10 a0 (3 : Int32)) hle_rf (fun r15 u15 m15 => mo_ret m15))))) _ hF
        obtain ⟨mc10, ms10, hmc10, hms10⟩ := up_of (moX8_many u9 r9 _ e10)
        replace hc := cst_call hc hmc10 hms10
        refine h_calli (va_runV (As := []) (rest := []) ⟨hx, hb, hml, hown, hts⟩ (mgX8_many l D A u9 r9 _ e10 mc10 ms10 hmc10 hms10) (cwV 0 hts (lw_V q1047 q1048 q1049 q139 q1050) rfl rfl rfl (by decide +kernel) ⟨Nat.le_of_ble_eq_true rfl, Nat.le_of_ble_eq_true rfl⟩) (h_preV hGr hr hS ec10 (by decide) (q := (RX8, TX8, 3)) rfl _) rfl rfl hl.1 rfl (lv_room (Nat.le_of_ble_eq_true rfl)) dX2_step_56 ⟨(bud hc mm10 hmc hms).1, (bud hc mm10 hmc hms).2⟩) hS (fun rr uu H locs hw hr hS => ?_)
        obtain rfl : u10 = uu := (congrArg Prod.snd hw).symm
        obtain rfl : r10 = rr := (congrArg Prod.fst hw).symm
        refine lv_aload_n hx hb dX2_step_59 rfl (lv_at hl 0 rfl) ?_
        obtain ⟨fs11, x11_, e11, f11, hF⟩ := gI_s hF
        refine h_get (C := RX2) (T := TX2) (N := 11) hx hb hts in_X2 hown hGr hr e11 (by decide) rfl 4 (by decide) (hts _ q573) (fun _ h9 => h9) f11 dX2_step_60 ?_
        refine lv_icmp_lt (tgt := 74) hx hb dX2_step_63 (by decide) (fun c12 => ?_) (fun c12 => ?_)
        · replace hF := it_t c12 hF
          refine lv_aload_n hx hb dX2_step_74 rfl (lv_at hl 0 rfl) ?_
          refine lv_aload_n hx hb dX2_step_75 rfl (lv_at hl 0 rfl) ?_
          obtain ⟨fc13, ec13, hF⟩ := gC_s hF
          obtain ⟨r13, u13, e13, hF⟩ := bnd_s hF
          have mm13 : hle u13 out.2 := (show Mo u13 _ from mo_gC (mo_bnd (moX2_judges n u13 a0 r13) hle_rf (fun r14 u14 m14 => mo_ret m14))) _ hF
          obtain ⟨mc13, ms13, hmc13, hms13⟩ := up_of (moX2_candidate n u10 a0 _ e13)
          replace hc := cst_call hc hmc13 hms13
          refine h_callr (va_runV (As := []) (rest := [.ref a0]) ⟨hx, hb, hml, hown, hts⟩ (mgX2_candidate l D A u10 n a0 _ e13 mc13 ms13 hmc13 hms13) (cwV 0 hts (lw_V q1051 q1053 qs17 q102 q1054) rfl rfl rfl (by decide +kernel) ⟨Nat.le_of_ble_eq_true rfl, Nat.le_of_ble_eq_true rfl⟩) (h_preV hGr hr hS ec13 (by decide) (q := (RX2, TX2, 11)) rfl _) rfl rfl hl.1 rfl (lv_room (Nat.le_of_ble_eq_true rfl)) dX2_step_76 ⟨(bud hc mm13 hmc hms).1, (bud hc mm13 hmc hms).2⟩) hS (fun rr uu H locs hw hr hS => ?_)
          obtain rfl : u13 = uu := (congrArg Prod.snd hw).symm
          obtain rfl : r13 = rr := (congrArg Prod.fst hw).symm
          obtain ⟨fc14, ec14, hF⟩ := gC_s hF
          obtain ⟨r14, u14, e14, hF⟩ := bnd_s hF
          have mm14 : hle u14 out.2 := (show Mo u14 _ from mo_ret hle_rf) _ hF
          obtain ⟨mc14, ms14, hmc14, hms14⟩ := up_of (moX2_judges n u13 a0 r13 _ e14)
          replace hc := cst_call hc hmc14 hms14
          refine h_calli (va_runV (As := [.ref r13]) (rest := []) ⟨hx, hb, hml, hown, hts⟩ (mgX2_judges l D A u13 n a0 r13 _ e14 mc14 ms14 hmc14 hms14) (cwV 1 hts (lw_V q914 q916 qs11 q102 q917) rfl rfl rfl (by decide +kernel) ⟨Nat.le_of_ble_eq_true rfl, Nat.le_of_ble_eq_true rfl⟩) (h_preV hGr hr hS ec14 (by decide) (q := (RX2, TX2, 11)) rfl _) rfl rfl hl.1 rfl (lv_room (Nat.le_of_ble_eq_true rfl)) dX2_step_79 ⟨(bud hc mm14 hmc hms).1, (bud hc mm14 hmc hms).2⟩) hS (fun rr uu H locs hw hr hS => ?_)
          obtain rfl : u14 = uu := (congrArg Prod.snd hw).symm
          obtain rfl : r14 = rr := (congrArg Prod.fst hw).symm
          have bz := bud_r hc hF hmc hms
          refine W.widen (k := mc) (n := ms) bz.1 bz.2 ?_
          exact W.iret (v := r14) hx hb hret (fun t ht hWm => ⟨⟨r14, u14, rfl, Option.some.inj hF, h_end hGr hr hS ht hWm⟩, hS.F ht⟩) hS.2.2 dX2_step_82
        · replace hF := it_f c12 hF
          refine lv_aload_n hx hb dX2_step_66 rfl (lv_at hl 0 rfl) ?_
          refine lv_iconst (v := 3) hx hb dX2_step_67 (by decide) ?_
          obtain ⟨fc15, ec15, hF⟩ := gC_s hF
          obtain ⟨r15, u15, e15, hF⟩ := bnd_s hF
          have mm15 : hle u15 out.2 := (show Mo u15 _ from mo_ret hle_rf) _ hF
          obtain ⟨mc15, ms15, hmc15, hms15⟩ := up_of (moX2_ends u10 a0 (3 : Int32) _ e15)
          replace hc := cst_call hc hmc15 hms15
          refine h_calli (va_runV (As := [.int 3]) (rest := []) ⟨hx, hb, hml, hown, hts⟩ (mgX2_ends l D A u10 a0 (3 : Int32) _ e15 mc15 ms15 hmc15 hms15) (cwV 1 hts (lw_V q922 q924 qs12 q102 q925) rfl rfl rfl (by decide +kernel) ⟨Nat.le_of_ble_eq_true rfl, Nat.le_of_ble_eq_true rfl⟩) (h_preV hGr hr hS ec15 (by decide) (q := (RX2, TX2, 11)) rfl _) rfl rfl hl.1 rfl (lv_room (Nat.le_of_ble_eq_true rfl)) dX2_step_68 ⟨(bud hc mm15 hmc hms).1, (bud hc mm15 hmc hms).2⟩) hS (fun rr uu H locs hw hr hS => ?_)
          obtain rfl : u15 = uu := (congrArg Prod.snd hw).symm
          obtain rfl : r15 = rr := (congrArg Prod.fst hw).symm
          refine lv_goto (tgt := 82) hx hb dX2_step_71 (by decide) ?_
          have bz := bud_r hc hF hmc hms
          refine W.widen (k := mc) (n := ms) bz.1 bz.2 ?_
          exact W.iret (v := r15) hx hb hret (fun t ht hWm => ⟨⟨r15, u15, rfl, Option.some.inj hF, h_end hGr hr hS ht hWm⟩, hS.F ht⟩) hS.2.2 dX2_step_82
      · replace hF := it_f c8 hF
        refine lv_aload_n hx hb dX2_step_47 rfl (lv_at hl 0 rfl) ?_
        obtain ⟨fc16, ec16, hF⟩ := gC_s hF
        obtain ⟨r16, u16, e16, hF⟩ := bnd_s hF
        have mm16 : hle u16 out.2 := (show Mo u16 _ from mo_ret hle_rf) _ hF
        obtain ⟨mc16, ms16, hmc16, hms16⟩ := up_of (moX2_restarts n u7 a0 _ e16)
        replace hc := cst_call hc hmc16 hms16
        refine h_calli (va_runV (As := []) (rest := []) ⟨hx, hb, hml, hown, hts⟩ (mgX2_restarts l D A u7 n a0 _ e16 mc16 ms16 hmc16 hms16) (cwV 0 hts (lw_V q1000 q1002 qs16 q102 q1003) rfl rfl rfl (by decide +kernel) ⟨Nat.le_of_ble_eq_true rfl, Nat.le_of_ble_eq_true rfl⟩) (h_preV hGr hr hS ec16 (by decide) (q := (RX2, TX2, 11)) rfl _) rfl rfl hl.1 rfl (lv_room (Nat.le_of_ble_eq_true rfl)) dX2_step_48 ⟨(bud hc mm16 hmc hms).1, (bud hc mm16 hmc hms).2⟩) hS (fun rr uu H locs hw hr hS => ?_)
        obtain rfl : u16 = uu := (congrArg Prod.snd hw).symm
        obtain rfl : r16 = rr := (congrArg Prod.fst hw).symm
        have bz := bud_r hc hF hmc hms
        refine W.widen (k := mc) (n := ms) bz.1 bz.2 ?_
        exact W.iret (v := r16) hx hb hret (fun t ht hWm => ⟨⟨r16, u16, rfl, Option.some.inj hF, h_end hGr hr hS ht hWm⟩, hS.F ht⟩) hS.2.2 dX2_step_51
    · replace hF := it_f c5 hF
      refine lv_aload_n hx hb dX2_step_24 rfl (lv_at hl 0 rfl) ?_
      obtain ⟨fc17, ec17, hF⟩ := gC_s hF
      obtain ⟨r17, u17, e17, hF⟩ := bnd_s hF
      have mm17 : hle u17 out.2 := (show Mo u17 _ from mo_gQ (fun x18_ => mo_gC (mo_bnd (moX2_judges n u17 a0 x18_) hle_rf (fun r19 u19 m19 => mo_ret m19)))) _ hF
      obtain ⟨mc17, ms17, hmc17, hms17⟩ := up_of (moX2_begins u4 a0 _ e17)
      replace hc := cst_call hc hmc17 hms17
      refine h_callv (va_runV (As := []) (rest := []) ⟨hx, hb, hml, hown, hts⟩ (mgX2_begins l D A u4 a0 _ e17 mc17 ms17 hmc17 hms17) (cwV 0 hts (lw_V q865 q867 qs8 q102 q868) rfl rfl rfl (by decide +kernel) ⟨Nat.le_of_ble_eq_true rfl, Nat.le_of_ble_eq_true rfl⟩) (h_preV hGr hr hS ec17 (by decide) (q := (RX2, TX2, 11)) rfl _) rfl rfl hl.1 rfl (lv_room (Nat.le_of_ble_eq_true rfl)) dX2_step_25 ⟨(bud hc mm17 hmc hms).1, (bud hc mm17 hmc hms).2⟩) hS (fun uu H locs hw hr hS => ?_)
      obtain rfl : u17 = uu := (congrArg Prod.snd hw).symm
      refine lv_aload_n hx hb dX2_step_28 rfl (lv_at hl 0 rfl) ?_
      refine lv_aload_n hx hb dX2_step_29 rfl (lv_at hl 0 rfl) ?_
      obtain ⟨fs18, x18_, e18, f18, hF⟩ := gQ_s hF
      refine h_get (C := RX2) (T := TX2) (N := 11) hx hb hts in_X2 hown hGr hr e18 (by decide) rfl 3 (by decide) (hts _ q570) (fun _ h9 => h9) f18 dX2_step_30 ?_
      obtain ⟨fc19, ec19, hF⟩ := gC_s hF
      obtain ⟨r19, u19, e19, hF⟩ := bnd_s hF
      have mm19 : hle u19 out.2 := (show Mo u19 _ from mo_ret hle_rf) _ hF
      obtain ⟨mc19, ms19, hmc19, hms19⟩ := up_of (moX2_judges n u17 a0 x18_ _ e19)
      replace hc := cst_call hc hmc19 hms19
      refine h_calli (va_runV (As := [.ref x18_]) (rest := []) ⟨hx, hb, hml, hown, hts⟩ (mgX2_judges l D A u17 n a0 x18_ _ e19 mc19 ms19 hmc19 hms19) (cwV 1 hts (lw_V q914 q916 qs11 q102 q917) rfl rfl rfl (by decide +kernel) ⟨Nat.le_of_ble_eq_true rfl, Nat.le_of_ble_eq_true rfl⟩) (h_preV hGr hr hS ec19 (by decide) (q := (RX2, TX2, 11)) rfl _) rfl rfl hl.1 rfl (lv_room (Nat.le_of_ble_eq_true rfl)) dX2_step_33 ⟨(bud hc mm19 hmc hms).1, (bud hc mm19 hmc hms).2⟩) hS (fun rr uu H locs hw hr hS => ?_)
      obtain rfl : u19 = uu := (congrArg Prod.snd hw).symm
      obtain rfl : r19 = rr := (congrArg Prod.fst hw).symm
      have bz := bud_r hc hF hmc hms
      refine W.widen (k := mc) (n := ms) bz.1 bz.2 ?_
      exact W.iret (v := r19) hx hb hret (fun t ht hWm => ⟨⟨r19, u19, rfl, Option.some.inj hF, h_end hGr hr hS ht hWm⟩, hS.F ht⟩) hS.2.2 dX2_step_36
  · replace hF := it_f c2 hF
    refine lv_aload_n hx hb dX2_step_7 rfl (lv_at hl 0 rfl) ?_
    obtain ⟨fs20, x20_, e20, f20, hF⟩ := gI_s hF
    refine h_get (C := RX2) (T := TX2) (N := 11) hx hb hts in_X2 hown hGr hr e20 (by decide) rfl 9 (by decide) (hts _ q586) (fun _ h9 => h9) f20 dX2_step_8 ?_
    have bz := bud_r hc hF hmc hms
    refine W.widen (k := mc) (n := ms) bz.1 bz.2 ?_
    exact W.iret (v := x20_) hx hb hret (fun t ht hWm => ⟨⟨x20_, h, rfl, Option.some.inj hF, h_end hGr hr hS ht hWm⟩, hS.F ht⟩) hS.2.2 dX2_step_11

def GX2_projected_2 (n : Nat) (h : Hp) (a0 : Nat) (p1 : Int32) (p2 : Int32) : Option (Int32 × Hp) := gQ h a0 2 0 (fun x1_ => gQ h a0 2 0 (fun x2_ => gC h a0 2 (bnd (GX2_vector h a0 p1) (fun r3 u3 => gC u3 a0 2 (bnd (GX2_times n u3 a0 r3) (fun r4 u4 => gC u4 a0 2 (bnd (GX2_vector u4 a0 p2) (fun r5 u5 => gC u5 x2_ 3 (bnd (GX3_product n u5 x2_ r4 r5) (fun r6 u6 => gC u6 a0 2 (bnd (GX2_norm u6 a0 p2) (fun r7 u7 => gC u7 x1_ 3 (bnd (GX3_quotient u7 x1_ r6 r7) (fun r8 u8 => some (r8, u8)))))))))))))))
theorem moX2_projected_2 (n : Nat) (h : Hp) (a0 : Nat) (p1 : Int32) (p2 : Int32) : Mo h (GX2_projected_2 n h a0 p1 p2) := by
  unfold GX2_projected_2
  exact mo_gQ (fun x1_ => mo_gQ (fun x2_ => mo_gC (mo_bnd (moX2_vector h a0 p1) hle_rf (fun r3 u3 m3 => mo_gC (mo_bnd (moX2_times n u3 a0 r3) m3 (fun r4 u4 m4 => mo_gC (mo_bnd (moX2_vector u4 a0 p2) m4 (fun r5 u5 m5 => mo_gC (mo_bnd (moX3_product n u5 x2_ r4 r5) m5 (fun r6 u6 m6 => mo_gC (mo_bnd (moX2_norm u6 a0 p2) m6 (fun r7 u7 m7 => mo_gC (mo_bnd (moX3_quotient u7 x1_ r6 r7) m7 (fun r8 u8 m8 => mo_ret m8))))))))))))))
set_option maxHeartbeats 4000000 in
set_option maxRecDepth 100000 in
theorem mgX2_projected_2 (l : Launch) (D : HD) (A : Nat → Prop) (h : Hp) (n : Nat) (a0 : Nat) (p1 : Int32) (p2 : Int32) (out : Int32 × Hp) (hF : GX2_projected_2 n h a0 p1 p2 = some out) (mc ms : Nat) (hmc : hCc out.2 = hCc h + mc) (hms : hSl out.2 = hSl h + ms) : Met l yX2_projected_2 (ws_ yX2_projected_2 cX2_projected_2 3 (some .int)) ({ frames := 4, cells := mc, slots := ms, locals := 86 }) (va_Pc [.ref a0, .int p1, .int p2] (hW D A h)) (va_Qi (fun r u => (r, u) = out) (hW D A) A) mc ms A := by
  refine Met.ofW (cc := cX2_projected_2) (maxL := 3) (ret := (some .int)) (by decide +kernel) rfl ?_
  intro p e s m args below meth c s₁ B hml hv
  obtain ⟨rfl, hr, hGr⟩ := hv
  have hx := B.exec
  have hb := B.bytes
  have hret := B.returns
  have hts := atoms_spec (ws := (ws_ yX2_projected_2 cX2_projected_2 3 (some .int))) B.pre
  have hts : ∀ w ∈ lw_all, w.before _ s = true := fun w h => hts w (List.mem_cons_of_mem _ h)
  have hown : s.vm.findClass RX2 = some m.cls := findClass_of_methodNamed B.named
  have hlocks := B.notSynchronized
  have hS : va_S A s.heap s.heap [] := va_S.rf
  have hc : cst h 0 0 h := cst_0
  have hl := lv_entry ([.ref a0, .int p1, .int p2]) (n := 3) (Nat.le_of_ble_eq_true rfl)
  rw [lg_entry_eq]
  generalize (lg_sl ([.ref a0, .int p1, .int p2]) ++ List.replicate (3 - (lg_sl ([.ref a0, .int p1, .int p2])).length) Slot.unset).toArray = ls at hl ⊢
  have hl : lv_has ls 3 [(0, .ref a0), (1, .int p1), (2, .int p2)] := hl
  unfold GX2_projected_2 at hF
  refine lv_aload_n hx hb dX2_projected_2_0 rfl (lv_at hl 0 rfl) ?_
  obtain ⟨fs1, x1_, e1, f1, hF⟩ := gQ_s hF
  refine h_get (C := RX2) (T := TX2) (N := 11) hx hb hts in_X2 hown hGr hr e1 (by decide) rfl 0 (by decide) (hts _ q562) (fun _ h9 => h9) f1 dX2_projected_2_1 ?_
  refine lv_aload_n hx hb dX2_projected_2_4 rfl (lv_at hl 0 rfl) ?_
  obtain ⟨fs2, x2_, e2, f2, hF⟩ := gQ_s hF
  refine h_get (C := RX2) (T := TX2) (N := 11) hx hb hts in_X2 hown hGr hr e2 (by decide) rfl 0 (by decide) (hts _ q562) (fun _ h9 => h9) f2 dX2_projected_2_5 ?_
  refine lv_aload_n hx hb dX2_projected_2_8 rfl (lv_at hl 0 rfl) ?_
  refine lv_aload_n hx hb dX2_projected_2_9 rfl (lv_at hl 0 rfl) ?_
  refine lv_iload_n hx hb dX2_projected_2_10 rfl (lv_at hl 1 rfl) ?_
  obtain ⟨fc3, ec3, hF⟩ := gC_s hF
  obtain ⟨r3, u3, e3, hF⟩ := bnd_s hF
  have mm3 : hle u3 out.2 := (show Mo u3 _ from mo_gC (mo_bnd (moX2_times n u3 a0 r3) hle_rf (fun r4 u4 m4 => mo_gC (mo_bnd (moX2_vector u4 a0 p2) m4 (fun r5 u5 m5 => mo_gC (mo_bnd (moX3_product n u5 x2_ r4 r5) m5 (fun r6 u6 m6 => mo_gC (mo_bnd (moX2_norm u6 a0 p2) m6 (fun r7 u7 m7 => mo_gC (mo_bnd (moX3_quotient u7 x1_ r6 r7) m7 (fun r8 u8 m8 => mo_ret m8))))))))))) _ hF
  obtain ⟨mc3, ms3, hmc3, hms3⟩ := up_of (moX2_vector h a0 p1 _ e3)
  replace hc := cst_call hc hmc3 hms3
  refine h_callr (va_runV (As := [.int p1]) (rest := [.ref a0, .ref x2_, .ref x1_]) ⟨hx, hb, hml, hown, hts⟩ (mgX2_vector l D A h a0 p1 _ e3 mc3 ms3 hmc3 hms3) (cwV 1 hts (lw_V q1013 q1014 q1015 q102 q1016) rfl rfl rfl (by decide +kernel) ⟨Nat.le_of_ble_eq_true rfl, Nat.le_of_ble_eq_true rfl⟩) (h_preV hGr hr hS ec3 (by decide) (q := (RX2, TX2, 11)) rfl _) rfl rfl hl.1 rfl (lv_room (Nat.le_of_ble_eq_true rfl)) dX2_projected_2_11 ⟨(bud hc mm3 hmc hms).1, (bud hc mm3 hmc hms).2⟩) hS (fun rr uu H locs hw hr hS => ?_)
  obtain rfl : u3 = uu := (congrArg Prod.snd hw).symm
  obtain rfl : r3 = rr := (congrArg Prod.fst hw).symm
  obtain ⟨fc4, ec4, hF⟩ := gC_s hF
  obtain ⟨r4, u4, e4, hF⟩ := bnd_s hF
  have mm4 : hle u4 out.2 := (show Mo u4 _ from mo_gC (mo_bnd (moX2_vector u4 a0 p2) hle_rf (fun r5 u5 m5 => mo_gC (mo_bnd (moX3_product n u5 x2_ r4 r5) m5 (fun r6 u6 m6 => mo_gC (mo_bnd (moX2_norm u6 a0 p2) m6 (fun r7 u7 m7 => mo_gC (mo_bnd (moX3_quotient u7 x1_ r6 r7) m7 (fun r8 u8 m8 => mo_ret m8))))))))) _ hF
  obtain ⟨mc4, ms4, hmc4, hms4⟩ := up_of (moX2_times n u3 a0 r3 _ e4)
  replace hc := cst_call hc hmc4 hms4
  refine h_callr (va_runV (As := [.ref r3]) (rest := [.ref x2_, .ref x1_]) ⟨hx, hb, hml, hown, hts⟩ (mgX2_times l D A u3 n a0 r3 _ e4 mc4 ms4 hmc4 hms4) (cwV 1 hts (lw_V q1055 q1056 q1057 q102 q1058) rfl rfl rfl (by decide +kernel) ⟨Nat.le_of_ble_eq_true rfl, Nat.le_of_ble_eq_true rfl⟩) (h_preV hGr hr hS ec4 (by decide) (q := (RX2, TX2, 11)) rfl _) rfl rfl hl.1 rfl (lv_room (Nat.le_of_ble_eq_true rfl)) dX2_projected_2_14 ⟨(bud hc mm4 hmc hms).1, (bud hc mm4 hmc hms).2⟩) hS (fun rr uu H locs hw hr hS => ?_)
  obtain rfl : u4 = uu := (congrArg Prod.snd hw).symm
  obtain rfl : r4 = rr := (congrArg Prod.fst hw).symm
  refine lv_aload_n hx hb dX2_projected_2_17 rfl (lv_at hl 0 rfl) ?_
  refine lv_iload_n hx hb dX2_projected_2_18 rfl (lv_at hl 2 rfl) ?_
  obtain ⟨fc5, ec5, hF⟩ := gC_s hF
  obtain ⟨r5, u5, e5, hF⟩ := bnd_s hF
  have mm5 : hle u5 out.2 := (show Mo u5 _ from mo_gC (mo_bnd (moX3_product n u5 x2_ r4 r5) hle_rf (fun r6 u6 m6 => mo_gC (mo_bnd (moX2_norm u6 a0 p2) m6 (fun r7 u7 m7 => mo_gC (mo_bnd (moX3_quotient u7 x1_ r6 r7) m7 (fun r8 u8 m8 => mo_ret m8))))))) _ hF
  obtain ⟨mc5, ms5, hmc5, hms5⟩ := up_of (moX2_vector u4 a0 p2 _ e5)
  replace hc := cst_call hc hmc5 hms5
  refine h_callr (va_runV (As := [.int p2]) (rest := [.ref r4, .ref x2_, .ref x1_]) ⟨hx, hb, hml, hown, hts⟩ (mgX2_vector l D A u4 a0 p2 _ e5 mc5 ms5 hmc5 hms5) (cwV 1 hts (lw_V q1013 q1014 q1015 q102 q1016) rfl rfl rfl (by decide +kernel) ⟨Nat.le_of_ble_eq_true rfl, Nat.le_of_ble_eq_true rfl⟩) (h_preV hGr hr hS ec5 (by decide) (q := (RX2, TX2, 11)) rfl _) rfl rfl hl.1 rfl (lv_room (Nat.le_of_ble_eq_true rfl)) dX2_projected_2_19 ⟨(bud hc mm5 hmc hms).1, (bud hc mm5 hmc hms).2⟩) hS (fun rr uu H locs hw hr hS => ?_)
  obtain rfl : u5 = uu := (congrArg Prod.snd hw).symm
  obtain rfl : r5 = rr := (congrArg Prod.fst hw).symm
  obtain ⟨fc6, ec6, hF⟩ := gC_s hF
  obtain ⟨r6, u6, e6, hF⟩ := bnd_s hF
  have mm6 : hle u6 out.2 := (show Mo u6 _ from mo_gC (mo_bnd (moX2_norm u6 a0 p2) hle_rf (fun r7 u7 m7 => mo_gC (mo_bnd (moX3_quotient u7 x1_ r6 r7) m7 (fun r8 u8 m8 => mo_ret m8))))) _ hF
  obtain ⟨mc6, ms6, hmc6, hms6⟩ := up_of (moX3_product n u5 x2_ r4 r5 _ e6)
  replace hc := cst_call hc hmc6 hms6
  refine h_calli (va_runV (As := [.ref r4, .ref r5]) (rest := [.ref x1_]) ⟨hx, hb, hml, hown, hts⟩ (mgX3_product l D A u5 n x2_ r4 r5 _ e6 mc6 ms6 hmc6 hms6) (cwV 2 hts (lw_V q968 q969 q970 q103 q971) rfl rfl rfl (by decide +kernel) ⟨Nat.le_of_ble_eq_true rfl, Nat.le_of_ble_eq_true rfl⟩) (h_preV hGr hr hS ec6 (by decide) (q := (RX3, TX3, 2)) rfl _) rfl rfl hl.1 rfl (lv_room (Nat.le_of_ble_eq_true rfl)) dX2_projected_2_22 ⟨(bud hc mm6 hmc hms).1, (bud hc mm6 hmc hms).2⟩) hS (fun rr uu H locs hw hr hS => ?_)
  obtain rfl : u6 = uu := (congrArg Prod.snd hw).symm
  obtain rfl : r6 = rr := (congrArg Prod.fst hw).symm
  refine lv_aload_n hx hb dX2_projected_2_25 rfl (lv_at hl 0 rfl) ?_
  refine lv_iload_n hx hb dX2_projected_2_26 rfl (lv_at hl 2 rfl) ?_
  obtain ⟨fc7, ec7, hF⟩ := gC_s hF
  obtain ⟨r7, u7, e7, hF⟩ := bnd_s hF
  have mm7 : hle u7 out.2 := (show Mo u7 _ from mo_gC (mo_bnd (moX3_quotient u7 x1_ r6 r7) hle_rf (fun r8 u8 m8 => mo_ret m8))) _ hF
  obtain ⟨mc7, ms7, hmc7, hms7⟩ := up_of (moX2_norm u6 a0 p2 _ e7)
  replace hc := cst_call hc hmc7 hms7
  refine h_calli (va_runV (As := [.int p2]) (rest := [.int r6, .ref x1_]) ⟨hx, hb, hml, hown, hts⟩ (mgX2_norm l D A u6 a0 p2 _ e7 mc7 ms7 hmc7 hms7) (cwV 1 hts (lw_V q1021 q1022 q1023 q102 q1024) rfl rfl rfl (by decide +kernel) ⟨Nat.le_of_ble_eq_true rfl, Nat.le_of_ble_eq_true rfl⟩) (h_preV hGr hr hS ec7 (by decide) (q := (RX2, TX2, 11)) rfl _) rfl rfl hl.1 rfl (lv_room (Nat.le_of_ble_eq_true rfl)) dX2_projected_2_27 ⟨(bud hc mm7 hmc hms).1, (bud hc mm7 hmc hms).2⟩) hS (fun rr uu H locs hw hr hS => ?_)
  obtain rfl : u7 = uu := (congrArg Prod.snd hw).symm
  obtain rfl : r7 = rr := (congrArg Prod.fst hw).symm
  obtain ⟨fc8, ec8, hF⟩ := gC_s hF
  obtain ⟨r8, u8, e8, hF⟩ := bnd_s hF
  have mm8 : hle u8 out.2 := (show Mo u8 _ from mo_ret hle_rf) _ hF
  obtain ⟨mc8, ms8, hmc8, hms8⟩ := up_of (moX3_quotient u7 x1_ r6 r7 _ e8)
  replace hc := cst_call hc hmc8 hms8
  refine h_calli (va_runV (As := [.int r6, .int r7]) (rest := []) ⟨hx, hb, hml, hown, hts⟩ (mgX3_quotient l D A u7 x1_ r6 r7 _ e8 mc8 ms8 hmc8 hms8) (cwV 2 hts (lw_V q1029 q1030 q1031 q103 q1032) rfl rfl rfl (by decide +kernel) ⟨Nat.le_of_ble_eq_true rfl, Nat.le_of_ble_eq_true rfl⟩) (h_preV hGr hr hS ec8 (by decide) (q := (RX3, TX3, 2)) rfl _) rfl rfl hl.1 rfl (lv_room (Nat.le_of_ble_eq_true rfl)) dX2_projected_2_30 ⟨(bud hc mm8 hmc hms).1, (bud hc mm8 hmc hms).2⟩) hS (fun rr uu H locs hw hr hS => ?_)
  obtain rfl : u8 = uu := (congrArg Prod.snd hw).symm
  obtain rfl : r8 = rr := (congrArg Prod.fst hw).symm
  have bz := bud_r hc hF hmc hms
  refine W.widen (k := mc) (n := ms) bz.1 bz.2 ?_
  exact W.iret (v := r8) hx hb hret (fun t ht hWm => ⟨⟨r8, u8, rfl, Option.some.inj hF, h_end hGr hr hS ht hWm⟩, hS.F ht⟩) hS.2.2 dX2_projected_2_33

def GX2_polynomial_1 (R : Nat → Hp → Nat → Nat → Int32 → Int32 → Int32 → Int32 → Option (Int32 × Hp)) (n : Nat) (h : Hp) (b0 : Nat) (b1 : Nat) (x2 : Int32) (x3 : Int32) (x4 : Int32) (x5 : Int32) : Option (Int32 × Hp) := gC h b1 7 (bnd (GX8_first h b1) (fun r2 u2 => gC u2 b1 7 (bnd (GX8_many u2 b1) (fun r3 u3 => if (r2 + r3) ≤ x5 then some (x4, u3) else gQ u3 b0 2 0 (fun x5_ => gC u3 b0 2 (bnd (GX2_projected_2 n u3 b0 x5 x5) (fun r6 u6 => gC u6 x5_ 3 (bnd (GX3_less u6 x5_ x2 r6) (fun r7 u7 => gQ u7 b0 2 0 (fun x8_ => gI u7 x8_ 3 0 (fun x9_ => gd (nzB x9_) (gC u7 b1 7 (bnd (GX8_first u7 b1) (fun r11 u11 => if x5 ≤ r11 then R 1 u11 b0 b1 x2 x4 ((r7 * x4) - (r7 * x4) / x9_ * x9_) (x5 + 1) else gQ u11 b0 2 0 (fun x13_ => gQ u11 b0 2 0 (fun x14_ => gC u11 b0 2 (bnd (GX2_norm u11 b0 x5) (fun r15 u15 => gC u15 b0 2 (bnd (GX2_norm u15 b0 (x5 - 1)) (fun r16 u16 => gC u16 x14_ 3 (bnd (GX3_quotient u16 x14_ r15 r16) (fun r17 u17 => gC u17 x13_ 3 (bnd (GX3_lessTimes u17 x13_ ((r7 * x4) - (r7 * x4) / x9_ * x9_) r17 x3) (fun r18 u18 => R 1 u18 b0 b1 x2 x4 r18 (x5 + 1)))))))))))))))))))))))))
def GX2_polynomial_r : Nat → Nat → Hp → Nat → Nat → Int32 → Int32 → Int32 → Int32 → Option (Int32 × Hp)
  | 0 => fun _ _ _ _ _ _ _ _ => none
  | n + 1 => fun k => match k with  | _ => GX2_polynomial_1 (GX2_polynomial_r n) n
def GX2_polynomial_0 (R : Nat → Hp → Nat → Nat → Int32 → Int32 → Int32 → Int32 → Option (Int32 × Hp)) (n : Nat) (h : Hp) (a0 : Nat) (a1 : Nat) (p2 : Int32) : Option (Int32 × Hp) := gC h a1 7 (bnd (GX8_first h a1) (fun r1 u1 => R 1 u1 a0 a1 p2 (0 : Int32) (1 : Int32) r1))
def GX2_polynomial (n : Nat) (h : Hp) (a0 : Nat) (a1 : Nat) (p2 : Int32) : Option (Int32 × Hp) := GX2_polynomial_0 (GX2_polynomial_r n) n h a0 a1 p2
theorem moX2_polynomial_r (n : Nat) : (∀ (h : Hp) (b0 : Nat) (b1 : Nat) (x2 : Int32) (x3 : Int32) (x4 : Int32) (x5 : Int32), Mo h (GX2_polynomial_r n 1 h b0 b1 x2 x3 x4 x5)) := by
  induction n with
  | zero => exact (fun _ _ _ _ _ _ _ => mo_no)
  | succ n ih =>
    have ml1 := ih
    exact (fun h b0 b1 x2 x3 x4 x5 => show Mo h (GX2_polynomial_1 (GX2_polynomial_r n) n h b0 b1 x2 x3 x4 x5) from by unfold GX2_polynomial_1; exact mo_gC (mo_bnd (moX8_first h b1) hle_rf (fun r2 u2 m2 => mo_gC (mo_bnd (moX8_many u2 b1) m2 (fun r3 u3 m3 => mo_ite (mo_ret m3) (mo_gQ (fun x5_ => mo_gC (mo_bnd (moX2_projected_2 n u3 b0 x5 x5) m3 (fun r6 u6 m6 => mo_gC (mo_bnd (moX3_less u6 x5_ x2 r6) m6 (fun r7 u7 m7 => mo_gQ (fun x8_ => mo_gI (fun x9_ => mo_gd (mo_gC (mo_bnd (moX8_first u7 b1) m7 (fun r11 u11 m11 => mo_ite (mo_tr m11 (ml1 u11 b0 b1 x2 x4 ((r7 * x4) - (r7 * x4) / x9_ * x9_) (x5 + 1))) (mo_gQ (fun x13_ => mo_gQ (fun x14_ => mo_gC (mo_bnd (moX2_norm u11 b0 x5) m11 (fun r15 u15 m15 => mo_gC (mo_bnd (moX2_norm u15 b0 (x5 - 1)) m15 (fun r16 u16 m16 => mo_gC (mo_bnd (moX3_quotient u16 x14_ r15 r16) m16 (fun r17 u17 m17 => mo_gC (mo_bnd (moX3_lessTimes u17 x13_ ((r7 * x4) - (r7 * x4) / x9_ * x9_) r17 x3) m17 (fun r18 u18 m18 => mo_tr m18 (ml1 u18 b0 b1 x2 x4 r18 (x5 + 1)))))))))))))))))))))))))))))
theorem moX2_polynomial (n : Nat) (h : Hp) (a0 : Nat) (a1 : Nat) (p2 : Int32) : Mo h (GX2_polynomial n h a0 a1 p2) := by
  have ml1 := moX2_polynomial_r n
  unfold GX2_polynomial GX2_polynomial_0
  exact mo_gC (mo_bnd (moX8_first h a1) hle_rf (fun r1 u1 m1 => mo_tr m1 (ml1 u1 a0 a1 p2 (0 : Int32) (1 : Int32) r1)))
set_option maxHeartbeats 4000000 in
set_option maxRecDepth 100000 in
theorem mgX2_polynomial (l : Launch) (D : HD) (A : Nat → Prop) (h : Hp) (n : Nat) (a0 : Nat) (a1 : Nat) (p2 : Int32) (out : Int32 × Hp) (hF : GX2_polynomial n h a0 a1 p2 = some out) (mc ms : Nat) (hmc : hCc out.2 = hCc h + mc) (hms : hSl out.2 = hSl h + ms) : Met l yX2_polynomial (ws_ yX2_polynomial cX2_polynomial 8 (some .int)) ({ frames := 5, cells := mc, slots := ms, locals := 108 }) (va_Pc [.ref a0, .ref a1, .int p2] (hW D A h)) (va_Qi (fun r u => (r, u) = out) (hW D A) A) mc ms A := by
  refine Met.ofW (cc := cX2_polynomial) (maxL := 8) (ret := (some .int)) (by decide +kernel) rfl ?_
  intro p e s m args below meth c s₁ B hml hv
  obtain ⟨rfl, hr, hGr⟩ := hv
  have hx := B.exec
  have hb := B.bytes
  have hret := B.returns
  have hts := atoms_spec (ws := (ws_ yX2_polynomial cX2_polynomial 8 (some .int))) B.pre
  have hts : ∀ w ∈ lw_all, w.before _ s = true := fun w h => hts w (List.mem_cons_of_mem _ h)
  have hown : s.vm.findClass RX2 = some m.cls := findClass_of_methodNamed B.named
  have hlocks := B.notSynchronized
  have hS : va_S A s.heap s.heap [] := va_S.rf
  have hc : cst h 0 0 h := cst_0
  have hl := lv_entry ([.ref a0, .ref a1, .int p2]) (n := 8) (Nat.le_of_ble_eq_true rfl)
  rw [lg_entry_eq]
  generalize (lg_sl ([.ref a0, .ref a1, .int p2]) ++ List.replicate (8 - (lg_sl ([.ref a0, .ref a1, .int p2])).length) Slot.unset).toArray = ls at hl ⊢
  have hl : lv_has ls 8 [(0, .ref a0), (1, .ref a1), (2, .int p2)] := hl
  obtain ⟨h0, eh0⟩ : ∃ z, z = h := ⟨_, rfl⟩
  rw [← eh0] at hmc hms
  have loop : ∀ n : Nat, (∀ (h : Hp) (b0 : Nat) (b1 : Nat) (x2 : Int32) (x3 : Int32) (x4 : Int32) (x5 : Int32), GX2_polynomial_r n 1 h b0 b1 x2 x3 x4 x5 = some out → ∀ (H : Heap) (locs : List Loc) (cells slots : Nat), cst h0 cells slots h → hR D A h H → va_S A s.heap H locs → ∀ ls : Array Slot, lv_has ls 8 [(0, .ref b0), (1, .ref b1), (2, .int x2), (3, .int x3), (4, .int x4), (5, .int x5)] → W p l e (headSpec (ws_ yX2_polynomial cX2_polynomial 8 (some .int)) ({ frames := 5, cells := mc, slots := ms, locals := 108 })).room s m ([.ref a0, .ref a1, .int p2] : List Value).toArray below meth c H locs cells slots (MQ below (va_Qi (fun r u => (r, u) = out) (hW D A) A) ([.ref a0, .ref a1, .int p2] : List Value).toArray s mc ms A) (F0 m 11 ls [])) := by
    intro n
    induction n with
    | zero => exact (fun _ _ _ _ _ _ _ h => nomatch h)
    | succ n ih =>
      have lp1 := ih
      have ml1 := moX2_polynomial_r n
      intro h b0 b1 x2 x3 x4 x5 hF H locs cells slots hc hr hS ls hl
      replace hF : GX2_polynomial_1 (GX2_polynomial_r n) n h b0 b1 x2 x3 x4 x5 = some out := hF
      unfold GX2_polynomial_1 at hF
      refine lv_iload hx hb dX2_polynomial_11 (lv_at hl 5 rfl) ?_
      refine lv_aload_n hx hb dX2_polynomial_13 rfl (lv_at hl 1 rfl) ?_
      obtain ⟨fc2, ec2, hF⟩ := gC_s hF
      obtain ⟨r2, u2, e2, hF⟩ := bnd_s hF
      have mm2 : hle u2 out.2 := (show Mo u2 _ from mo_gC (mo_bnd (moX8_many u2 b1) hle_rf (fun r3 u3 m3 => mo_ite (mo_ret m3) (mo_gQ (fun x5_ => mo_gC (mo_bnd (moX2_projected_2 n u3 b0 x5 x5) m3 (fun r6 u6 m6 => mo_gC (mo_bnd (moX3_less u6 x5_ x2 r6) m6 (fun r7 u7 m7 => mo_gQ (fun x8_ => mo_gI (fun x9_ => mo_gd (mo_gC (mo_bnd (moX8_first u7 b1) m7 (fun r11 u11 m11 => mo_ite (mo_tr m11 (ml1 u11 b0 b1 x2 x4 ((r7 * x4) - (r7 * x4) / x9_ * x9_) (x5 + 1))) (mo_gQ (fun x13_ => mo_gQ (fun x14_ => mo_gC (mo_bnd (moX2_norm u11 b0 x5) m11 (fun r15 u15 m15 => mo_gC (mo_bnd (moX2_norm u15 b0 (x5 - 1)) m15 (fun r16 u16 m16 => mo_gC (mo_bnd (moX3_quotient u16 x14_ r15 r16) m16 (fun r17 u17 m17 => mo_gC (mo_bnd (moX3_lessTimes u17 x13_ ((r7 * x4) - (r7 * x4) / x9_ * x9_) r17 x3) m17 (fun r18 u18 m18 => mo_tr m18 (ml1 u18 b0 b1 x2 x4 r18 (x5 + 1))))))))))))))))))))))))))) _ hF
      obtain ⟨mc2, ms2, hmc2, hms2⟩ := up_of (moX8_first h b1 _ e2)
      replace hc := cst_call hc hmc2 hms2
      refine h_calli (va_runV (As := []) (rest := [.int x5]) ⟨hx, hb, hml, hown, hts⟩ (mgX8_first l D A h b1 _ e2 mc2 ms2 hmc2 hms2) (cwV 0 hts (lw_V q1789 q1778 q1779 q139 q1780) rfl rfl rfl (by decide +kernel) ⟨Nat.le_of_ble_eq_true rfl, Nat.le_of_ble_eq_true rfl⟩) (h_preV hGr hr hS ec2 (by decide) (q := (RX8, TX8, 3)) rfl _) rfl rfl hl.1 rfl (lv_room (Nat.le_of_ble_eq_true rfl)) dX2_polynomial_14 ⟨(bud hc mm2 hmc hms).1, (bud hc mm2 hmc hms).2⟩) hS (fun rr uu H locs hw hr hS => ?_)
      obtain rfl : u2 = uu := (congrArg Prod.snd hw).symm
      obtain rfl : r2 = rr := (congrArg Prod.fst hw).symm
      refine lv_aload_n hx hb dX2_polynomial_17 rfl (lv_at hl 1 rfl) ?_
      obtain ⟨fc3, ec3, hF⟩ := gC_s hF
      obtain ⟨r3, u3, e3, hF⟩ := bnd_s hF
      have mm3 : hle u3 out.2 := (show Mo u3 _ from mo_ite (mo_ret hle_rf) (mo_gQ (fun x5_ => mo_gC (mo_bnd (moX2_projected_2 n u3 b0 x5 x5) hle_rf (fun r6 u6 m6 => mo_gC (mo_bnd (moX3_less u6 x5_ x2 r6) m6 (fun r7 u7 m7 => mo_gQ (fun x8_ => mo_gI (fun x9_ => mo_gd (mo_gC (mo_bnd (moX8_first u7 b1) m7 (fun r11 u11 m11 => mo_ite (mo_tr m11 (ml1 u11 b0 b1 x2 x4 ((r7 * x4) - (r7 * x4) / x9_ * x9_) (x5 + 1))) (mo_gQ (fun x13_ => mo_gQ (fun x14_ => mo_gC (mo_bnd (moX2_norm u11 b0 x5) m11 (fun r15 u15 m15 => mo_gC (mo_bnd (moX2_norm u15 b0 (x5 - 1)) m15 (fun r16 u16 m16 => mo_gC (mo_bnd (moX3_quotient u16 x14_ r15 r16) m16 (fun r17 u17 m17 => mo_gC (mo_bnd (moX3_lessTimes u17 x13_ ((r7 * x4) - (r7 * x4) / x9_ * x9_) r17 x3) m17 (fun r18 u18 m18 => mo_tr m18 (ml1 u18 b0 b1 x2 x4 r18 (x5 + 1))))))))))))))))))))))))) _ hF
      obtain ⟨mc3, ms3, hmc3, hms3⟩ := up_of (moX8_many u2 b1 _ e3)
      replace hc := cst_call hc hmc3 hms3
      refine h_calli (va_runV (As := []) (rest := [.int r2, .int x5]) ⟨hx, hb, hml, hown, hts⟩ (mgX8_many l D A u2 b1 _ e3 mc3 ms3 hmc3 hms3) (cwV 0 hts (lw_V q1047 q1048 q1049 q139 q1050) rfl rfl rfl (by decide +kernel) ⟨Nat.le_of_ble_eq_true rfl, Nat.le_of_ble_eq_true rfl⟩) (h_preV hGr hr hS ec3 (by decide) (q := (RX8, TX8, 3)) rfl _) rfl rfl hl.1 rfl (lv_room (Nat.le_of_ble_eq_true rfl)) dX2_polynomial_18 ⟨(bud hc mm3 hmc hms).1, (bud hc mm3 hmc hms).2⟩) hS (fun rr uu H locs hw hr hS => ?_)
      obtain rfl : u3 = uu := (congrArg Prod.snd hw).symm
      obtain rfl : r3 = rr := (congrArg Prod.fst hw).symm
      refine lv_iadd hx hb dX2_polynomial_21 ?_
      refine lv_icmp_ge (tgt := 113) hx hb dX2_polynomial_22 (by decide) (fun c4 => ?_) (fun c4 => ?_)
      · replace hF := it_t c4 hF
        refine lv_iload hx hb dX2_polynomial_113 (lv_at hl 4 rfl) ?_
        have bz := bud_r hc hF hmc hms
        refine W.widen (k := mc) (n := ms) bz.1 bz.2 ?_
        exact W.iret (v := x4) hx hb hret (fun t ht hWm => ⟨⟨x4, u3, rfl, Option.some.inj hF, h_end hGr hr hS ht hWm⟩, hS.F ht⟩) hS.2.2 dX2_polynomial_115
      · replace hF := it_f c4 hF
        refine lv_aload_n hx hb dX2_polynomial_25 rfl (lv_at hl 0 rfl) ?_
        obtain ⟨fs5, x5_, e5, f5, hF⟩ := gQ_s hF
        refine h_get (C := RX2) (T := TX2) (N := 11) hx hb hts in_X2 hown hGr hr e5 (by decide) rfl 0 (by decide) (hts _ q562) (fun _ h9 => h9) f5 dX2_polynomial_26 ?_
        refine lv_iload_n hx hb dX2_polynomial_29 rfl (lv_at hl 2 rfl) ?_
        refine lv_aload_n hx hb dX2_polynomial_30 rfl (lv_at hl 0 rfl) ?_
        refine lv_iload hx hb dX2_polynomial_31 (lv_at hl 5 rfl) ?_
        refine lv_iload hx hb dX2_polynomial_33 (lv_at hl 5 rfl) ?_
        obtain ⟨fc6, ec6, hF⟩ := gC_s hF
        obtain ⟨r6, u6, e6, hF⟩ := bnd_s hF
        have mm6 : hle u6 out.2 := (show Mo u6 _ from mo_gC (mo_bnd (moX3_less u6 x5_ x2 r6) hle_rf (fun r7 u7 m7 => mo_gQ (fun x8_ => mo_gI (fun x9_ => mo_gd (mo_gC (mo_bnd (moX8_first u7 b1) m7 (fun r11 u11 m11 => mo_ite (mo_tr m11 (ml1 u11 b0 b1 x2 x4 ((r7 * x4) - (r7 * x4) / x9_ * x9_) (x5 + 1))) (mo_gQ (fun x13_ => mo_gQ (fun x14_ => mo_gC (mo_bnd (moX2_norm u11 b0 x5) m11 (fun r15 u15 m15 => mo_gC (mo_bnd (moX2_norm u15 b0 (x5 - 1)) m15 (fun r16 u16 m16 => mo_gC (mo_bnd (moX3_quotient u16 x14_ r15 r16) m16 (fun r17 u17 m17 => mo_gC (mo_bnd (moX3_lessTimes u17 x13_ ((r7 * x4) - (r7 * x4) / x9_ * x9_) r17 x3) m17 (fun r18 u18 m18 => mo_tr m18 (ml1 u18 b0 b1 x2 x4 r18 (x5 + 1))))))))))))))))))))) _ hF
        obtain ⟨mc6, ms6, hmc6, hms6⟩ := up_of (moX2_projected_2 n u3 b0 x5 x5 _ e6)
        replace hc := cst_call hc hmc6 hms6
        refine h_calli (va_runV (As := [.int x5, .int x5]) (rest := [.int x2, .ref x5_]) ⟨hx, hb, hml, hown, hts⟩ (mgX2_projected_2 l D A u3 n b0 x5 x5 _ e6 mc6 ms6 hmc6 hms6) (cwV 2 hts (lw_V q1141 q1142 q1143 q102 q1144) rfl rfl rfl (by decide +kernel) ⟨Nat.le_of_ble_eq_true rfl, Nat.le_of_ble_eq_true rfl⟩) (h_preV hGr hr hS ec6 (by decide) (q := (RX2, TX2, 11)) rfl _) rfl rfl hl.1 rfl (lv_room (Nat.le_of_ble_eq_true rfl)) dX2_polynomial_35 ⟨(bud hc mm6 hmc hms).1, (bud hc mm6 hmc hms).2⟩) hS (fun rr uu H locs hw hr hS => ?_)
        obtain rfl : u6 = uu := (congrArg Prod.snd hw).symm
        obtain rfl : r6 = rr := (congrArg Prod.fst hw).symm
        obtain ⟨fc7, ec7, hF⟩ := gC_s hF
        obtain ⟨r7, u7, e7, hF⟩ := bnd_s hF
        have mm7 : hle u7 out.2 := (show Mo u7 _ from mo_gQ (fun x8_ => mo_gI (fun x9_ => mo_gd (mo_gC (mo_bnd (moX8_first u7 b1) hle_rf (fun r11 u11 m11 => mo_ite (mo_tr m11 (ml1 u11 b0 b1 x2 x4 ((r7 * x4) - (r7 * x4) / x9_ * x9_) (x5 + 1))) (mo_gQ (fun x13_ => mo_gQ (fun x14_ => mo_gC (mo_bnd (moX2_norm u11 b0 x5) m11 (fun r15 u15 m15 => mo_gC (mo_bnd (moX2_norm u15 b0 (x5 - 1)) m15 (fun r16 u16 m16 => mo_gC (mo_bnd (moX3_quotient u16 x14_ r15 r16) m16 (fun r17 u17 m17 => mo_gC (mo_bnd (moX3_lessTimes u17 x13_ ((r7 * x4) - (r7 * x4) / x9_ * x9_) r17 x3) m17 (fun r18 u18 m18 => mo_tr m18 (ml1 u18 b0 b1 x2 x4 r18 (x5 + 1))))))))))))))))))) _ hF
        obtain ⟨mc7, ms7, hmc7, hms7⟩ := up_of (moX3_less u6 x5_ x2 r6 _ e7)
        replace hc := cst_call hc hmc7 hms7
        refine h_calli (va_runV (As := [.int x2, .int r6]) (rest := []) ⟨hx, hb, hml, hown, hts⟩ (mgX3_less l D A u6 x5_ x2 r6 _ e7 mc7 ms7 hmc7 hms7) (cwV 2 hts (lw_V q1183 q1184 q1185 q103 q1186) rfl rfl rfl (by decide +kernel) ⟨Nat.le_of_ble_eq_true rfl, Nat.le_of_ble_eq_true rfl⟩) (h_preV hGr hr hS ec7 (by decide) (q := (RX3, TX3, 2)) rfl _) rfl rfl hl.1 rfl (lv_room (Nat.le_of_ble_eq_true rfl)) dX2_polynomial_38 ⟨(bud hc mm7 hmc hms).1, (bud hc mm7 hmc hms).2⟩) hS (fun rr uu H locs hw hr hS => ?_)
        obtain rfl : u7 = uu := (congrArg Prod.snd hw).symm
        obtain rfl : r7 = rr := (congrArg Prod.fst hw).symm
        refine lv_istore (lv' := [(6, .int r7), (0, .ref b0), (1, .ref b1), (2, .int x2), (3, .int x3), (4, .int x4), (5, .int x5)]) hx hb dX2_polynomial_41 hl (by decide) rfl (fun ls hl => ?_)
        refine lv_iload hx hb dX2_polynomial_43 (lv_at hl 0 rfl) ?_
        refine lv_iload hx hb dX2_polynomial_45 (lv_at hl 5 rfl) ?_
        refine lv_imul hx hb dX2_polynomial_47 ?_
        refine lv_aload_n hx hb dX2_polynomial_48 rfl (lv_at hl 1 rfl) ?_
        obtain ⟨fs8, x8_, e8, f8, hF⟩ := gQ_s hF
        refine h_get (C := RX2) (T := TX2) (N := 11) hx hb hts in_X2 hown hGr hr e8 (by decide) rfl 0 (by decide) (hts _ q562) (fun _ h9 => h9) f8 dX2_polynomial_49 ?_
        obtain ⟨fs9, x9_, e9, f9, hF⟩ := gI_s hF
        refine h_getN (C := RX3) (T := TX3) (N := 2) hx hb hts in_X3 hown hGr hr e9 (by decide) rfl 0 (by decide) (va_Nw.use rfl (hGr.nw q169 rfl)) (fun _ h9 => h9) f9 dX2_polynomial_52 ?_
        obtain ⟨g10, hF⟩ := gd_s hF
        refine lv_irem hx hb dX2_polynomial_55 (nz_of g10) ?_
        refine lv_istore (lv' := [(7, .int ((r7 * x4) - (r7 * x4) / x9_ * x9_)), (6, .int r7), (0, .ref b0), (1, .ref b1), (2, .int x2), (3, .int x3), (4, .int x4), (5, .int x5)]) hx hb dX2_polynomial_56 hl (by decide) rfl (fun ls hl => ?_)
        refine lv_iload hx hb dX2_polynomial_58 (lv_at hl 7 rfl) ?_
        refine lv_aload_n hx hb dX2_polynomial_60 rfl (lv_at hl 3 rfl) ?_
        obtain ⟨fc11, ec11, hF⟩ := gC_s hF
        obtain ⟨r11, u11, e11, hF⟩ := bnd_s hF
        have mm11 : hle u11 out.2 := (show Mo u11 _ from mo_ite (mo_tr hle_rf (ml1 u11 b0 b1 x2 x4 ((r7 * x4) - (r7 * x4) / x9_ * x9_) (x5 + 1))) (mo_gQ (fun x13_ => mo_gQ (fun x14_ => mo_gC (mo_bnd (moX2_norm u11 b0 x5) hle_rf (fun r15 u15 m15 => mo_gC (mo_bnd (moX2_norm u15 b0 (x5 - 1)) m15 (fun r16 u16 m16 => mo_gC (mo_bnd (moX3_quotient u16 x14_ r15 r16) m16 (fun r17 u17 m17 => mo_gC (mo_bnd (moX3_lessTimes u17 x13_ ((r7 * x4) - (r7 * x4) / x9_ * x9_) r17 x3) m17 (fun r18 u18 m18 => mo_tr m18 (ml1 u18 b0 b1 x2 x4 r18 (x5 + 1)))))))))))))) _ hF
        obtain ⟨mc11, ms11, hmc11, hms11⟩ := up_of (moX8_first u7 b1 _ e11)
        replace hc := cst_call hc hmc11 hms11
        refine h_calli (va_runV (As := []) (rest := [.int x5]) ⟨hx, hb, hml, hown, hts⟩ (mgX8_first l D A u7 b1 _ e11 mc11 ms11 hmc11 hms11) (cwV 0 hts (lw_V q1789 q1778 q1779 q139 q1780) rfl rfl rfl (by decide +kernel) ⟨Nat.le_of_ble_eq_true rfl, Nat.le_of_ble_eq_true rfl⟩) (h_preV hGr hr hS ec11 (by decide) (q := (RX8, TX8, 3)) rfl _) rfl rfl hl.1 rfl (lv_room (Nat.le_of_ble_eq_true rfl)) dX2_polynomial_61 ⟨(bud hc mm11 hmc hms).1, (bud hc mm11 hmc hms).2⟩) hS (fun rr uu H locs hw hr hS => ?_)
        obtain rfl : u11 = uu := (congrArg Prod.snd hw).symm
        obtain rfl : r11 = rr := (congrArg Prod.fst hw).symm
        refine lv_icmp_le (tgt := 100) hx hb dX2_polynomial_64 (by decide) (fun c12 => ?_) (fun c12 => ?_)
        · replace hF := it_t c12 hF
          refine lv_iload hx hb dX2_polynomial_100 (lv_at hl 6 rfl) ?_
          refine lv_istore_n (lv' := [(3, .int x4), (7, .int ((r7 * x4) - (r7 * x4) / x9_ * x9_)), (6, .int r7), (0, .ref b0), (1, .ref b1), (2, .int x2), (4, .int x4), (5, .int x5)]) hx hb dX2_polynomial_102 rfl hl (by decide) rfl (fun ls hl => ?_)
          refine lv_iload hx hb dX2_polynomial_103 (lv_at hl 1 rfl) ?_
          refine lv_istore (lv' := [(4, .int ((r7 * x4) - (r7 * x4) / x9_ * x9_)), (3, .int x4), (7, .int ((r7 * x4) - (r7 * x4) / x9_ * x9_)), (6, .int r7), (0, .ref b0), (1, .ref b1), (2, .int x2), (5, .int x5)]) hx hb dX2_polynomial_105 hl (by decide) rfl (fun ls hl => ?_)
          refine lv_iinc (v := (x5 + 1)) (lv' := [(5, .int (x5 + 1)), (4, .int ((r7 * x4) - (r7 * x4) / x9_ * x9_)), (3, .int x4), (7, .int ((r7 * x4) - (r7 * x4) / x9_ * x9_)), (6, .int r7), (0, .ref b0), (1, .ref b1), (2, .int x2)]) hx hb dX2_polynomial_107 hl (k := 7) rfl rfl (by decide) rfl (fun ls hl => ?_)
          refine lv_goto (tgt := 11) hx hb dX2_polynomial_110 (by decide) ?_
          exact lp1 u11 b0 b1 x2 x4 ((r7 * x4) - (r7 * x4) / x9_ * x9_) (x5 + 1) hF _ _ _ _ hc hr hS ls (lv_sub hl [5, 6, 7, 2, 1, 0] rfl)
        · replace hF := it_f c12 hF
          refine lv_aload_n hx hb dX2_polynomial_67 rfl (lv_at hl 2 rfl) ?_
          obtain ⟨fs13, x13_, e13, f13, hF⟩ := gQ_s hF
          refine h_get (C := RX2) (T := TX2) (N := 11) hx hb hts in_X2 hown hGr hr e13 (by decide) rfl 0 (by decide) (hts _ q562) (fun _ h9 => h9) f13 dX2_polynomial_68 ?_
          refine lv_iload hx hb dX2_polynomial_71 (lv_at hl 0 rfl) ?_
          refine lv_aload_n hx hb dX2_polynomial_73 rfl (lv_at hl 2 rfl) ?_
          obtain ⟨fs14, x14_, e14, f14, hF⟩ := gQ_s hF
          refine h_get (C := RX2) (T := TX2) (N := 11) hx hb hts in_X2 hown hGr hr e14 (by decide) rfl 0 (by decide) (hts _ q562) (fun _ h9 => h9) f14 dX2_polynomial_74 ?_
          refine lv_aload_n hx hb dX2_polynomial_77 rfl (lv_at hl 2 rfl) ?_
          refine lv_iload hx hb dX2_polynomial_78 (lv_at hl 7 rfl) ?_
          obtain ⟨fc15, ec15, hF⟩ := gC_s hF
          obtain ⟨r15, u15, e15, hF⟩ := bnd_s hF
          have mm15 : hle u15 out.2 := (show Mo u15 _ from mo_gC (mo_bnd (moX2_norm u15 b0 (x5 - 1)) hle_rf (fun r16 u16 m16 => mo_gC (mo_bnd (moX3_quotient u16 x14_ r15 r16) m16 (fun r17 u17 m17 => mo_gC (mo_bnd (moX3_lessTimes u17 x13_ ((r7 * x4) - (r7 * x4) / x9_ * x9_) r17 x3) m17 (fun r18 u18 m18 => mo_tr m18 (ml1 u18 b0 b1 x2 x4 r18 (x5 + 1))))))))) _ hF
          obtain ⟨mc15, ms15, hmc15, hms15⟩ := up_of (moX2_norm u11 b0 x5 _ e15)
          replace hc := cst_call hc hmc15 hms15
          refine h_calli (va_runV (As := [.int x5]) (rest := [.ref x14_, .int ((r7 * x4) - (r7 * x4) / x9_ * x9_), .ref x13_]) ⟨hx, hb, hml, hown, hts⟩ (mgX2_norm l D A u11 b0 x5 _ e15 mc15 ms15 hmc15 hms15) (cwV 1 hts (lw_V q1021 q1022 q1023 q102 q1024) rfl rfl rfl (by decide +kernel) ⟨Nat.le_of_ble_eq_true rfl, Nat.le_of_ble_eq_true rfl⟩) (h_preV hGr hr hS ec15 (by decide) (q := (RX2, TX2, 11)) rfl _) rfl rfl hl.1 rfl (lv_room (Nat.le_of_ble_eq_true rfl)) dX2_polynomial_80 ⟨(bud hc mm15 hmc hms).1, (bud hc mm15 hmc hms).2⟩) hS (fun rr uu H locs hw hr hS => ?_)
          obtain rfl : u15 = uu := (congrArg Prod.snd hw).symm
          obtain rfl : r15 = rr := (congrArg Prod.fst hw).symm
          refine lv_aload_n hx hb dX2_polynomial_83 rfl (lv_at hl 2 rfl) ?_
          refine lv_iload hx hb dX2_polynomial_84 (lv_at hl 7 rfl) ?_
          refine lv_iconst (v := 1) hx hb dX2_polynomial_86 (by decide) ?_
          refine lv_isub hx hb dX2_polynomial_87 ?_
          obtain ⟨fc16, ec16, hF⟩ := gC_s hF
          obtain ⟨r16, u16, e16, hF⟩ := bnd_s hF
          have mm16 : hle u16 out.2 := (show Mo u16 _ from mo_gC (mo_bnd (moX3_quotient u16 x14_ r15 r16) hle_rf (fun r17 u17 m17 => mo_gC (mo_bnd (moX3_lessTimes u17 x13_ ((r7 * x4) - (r7 * x4) / x9_ * x9_) r17 x3) m17 (fun r18 u18 m18 => mo_tr m18 (ml1 u18 b0 b1 x2 x4 r18 (x5 + 1))))))) _ hF
          obtain ⟨mc16, ms16, hmc16, hms16⟩ := up_of (moX2_norm u15 b0 (x5 - 1) _ e16)
          replace hc := cst_call hc hmc16 hms16
          refine h_calli (va_runV (As := [.int (x5 - 1)]) (rest := [.int r15, .ref x14_, .int ((r7 * x4) - (r7 * x4) / x9_ * x9_), .ref x13_]) ⟨hx, hb, hml, hown, hts⟩ (mgX2_norm l D A u15 b0 (x5 - 1) _ e16 mc16 ms16 hmc16 hms16) (cwV 1 hts (lw_V q1021 q1022 q1023 q102 q1024) rfl rfl rfl (by decide +kernel) ⟨Nat.le_of_ble_eq_true rfl, Nat.le_of_ble_eq_true rfl⟩) (h_preV hGr hr hS ec16 (by decide) (q := (RX2, TX2, 11)) rfl _) rfl rfl hl.1 rfl (lv_room (Nat.le_of_ble_eq_true rfl)) dX2_polynomial_88 ⟨(bud hc mm16 hmc hms).1, (bud hc mm16 hmc hms).2⟩) hS (fun rr uu H locs hw hr hS => ?_)
          obtain rfl : u16 = uu := (congrArg Prod.snd hw).symm
          obtain rfl : r16 = rr := (congrArg Prod.fst hw).symm
          obtain ⟨fc17, ec17, hF⟩ := gC_s hF
          obtain ⟨r17, u17, e17, hF⟩ := bnd_s hF
          have mm17 : hle u17 out.2 := (show Mo u17 _ from mo_gC (mo_bnd (moX3_lessTimes u17 x13_ ((r7 * x4) - (r7 * x4) / x9_ * x9_) r17 x3) hle_rf (fun r18 u18 m18 => mo_tr m18 (ml1 u18 b0 b1 x2 x4 r18 (x5 + 1))))) _ hF
          obtain ⟨mc17, ms17, hmc17, hms17⟩ := up_of (moX3_quotient u16 x14_ r15 r16 _ e17)
          replace hc := cst_call hc hmc17 hms17
          refine h_calli (va_runV (As := [.int r15, .int r16]) (rest := [.int ((r7 * x4) - (r7 * x4) / x9_ * x9_), .ref x13_]) ⟨hx, hb, hml, hown, hts⟩ (mgX3_quotient l D A u16 x14_ r15 r16 _ e17 mc17 ms17 hmc17 hms17) (cwV 2 hts (lw_V q1029 q1030 q1031 q103 q1032) rfl rfl rfl (by decide +kernel) ⟨Nat.le_of_ble_eq_true rfl, Nat.le_of_ble_eq_true rfl⟩) (h_preV hGr hr hS ec17 (by decide) (q := (RX3, TX3, 2)) rfl _) rfl rfl hl.1 rfl (lv_room (Nat.le_of_ble_eq_true rfl)) dX2_polynomial_91 ⟨(bud hc mm17 hmc hms).1, (bud hc mm17 hmc hms).2⟩) hS (fun rr uu H locs hw hr hS => ?_)
          obtain rfl : u17 = uu := (congrArg Prod.snd hw).symm
          obtain rfl : r17 = rr := (congrArg Prod.fst hw).symm
          refine lv_iload_n hx hb dX2_polynomial_94 rfl (lv_at hl 5 rfl) ?_
          obtain ⟨fc18, ec18, hF⟩ := gC_s hF
          obtain ⟨r18, u18, e18, hF⟩ := bnd_s hF
          have mm18 : hle u18 out.2 := (show Mo u18 _ from mo_tr hle_rf (ml1 u18 b0 b1 x2 x4 r18 (x5 + 1))) _ hF
          obtain ⟨mc18, ms18, hmc18, hms18⟩ := up_of (moX3_lessTimes u17 x13_ ((r7 * x4) - (r7 * x4) / x9_ * x9_) r17 x3 _ e18)
          replace hc := cst_call hc hmc18 hms18
          refine h_calli (va_runV (As := [.int ((r7 * x4) - (r7 * x4) / x9_ * x9_), .int r17, .int x3]) (rest := []) ⟨hx, hb, hml, hown, hts⟩ (mgX3_lessTimes l D A u17 x13_ ((r7 * x4) - (r7 * x4) / x9_ * x9_) r17 x3 _ e18 mc18 ms18 hmc18 hms18) (cwV 3 hts (lw_V q1790 q1042 q1043 q103 q1044) rfl rfl rfl (by decide +kernel) ⟨Nat.le_of_ble_eq_true rfl, Nat.le_of_ble_eq_true rfl⟩) (h_preV hGr hr hS ec18 (by decide) (q := (RX3, TX3, 2)) rfl _) rfl rfl hl.1 rfl (lv_room (Nat.le_of_ble_eq_true rfl)) dX2_polynomial_95 ⟨(bud hc mm18 hmc hms).1, (bud hc mm18 hmc hms).2⟩) hS (fun rr uu H locs hw hr hS => ?_)
          obtain rfl : u18 = uu := (congrArg Prod.snd hw).symm
          obtain rfl : r18 = rr := (congrArg Prod.fst hw).symm
          refine lv_istore (lv' := [(7, .int r18), (6, .int r7), (0, .ref b0), (1, .ref b1), (2, .int x2), (3, .int x3), (4, .int x4), (5, .int x5)]) hx hb dX2_polynomial_98 hl (by decide) rfl (fun ls hl => ?_)
          refine lv_iload hx hb dX2_polynomial_100 (lv_at hl 6 rfl) ?_
          refine lv_istore_n (lv' := [(3, .int x4), (7, .int r18), (6, .int r7), (0, .ref b0), (1, .ref b1), (2, .int x2), (4, .int x4), (5, .int x5)]) hx hb dX2_polynomial_102 rfl hl (by decide) rfl (fun ls hl => ?_)
          refine lv_iload hx hb dX2_polynomial_103 (lv_at hl 1 rfl) ?_
          refine lv_istore (lv' := [(4, .int r18), (3, .int x4), (7, .int r18), (6, .int r7), (0, .ref b0), (1, .ref b1), (2, .int x2), (5, .int x5)]) hx hb dX2_polynomial_105 hl (by decide) rfl (fun ls hl => ?_)
          refine lv_iinc (v := (x5 + 1)) (lv' := [(5, .int (x5 + 1)), (4, .int r18), (3, .int x4), (7, .int r18), (6, .int r7), (0, .ref b0), (1, .ref b1), (2, .int x2)]) hx hb dX2_polynomial_107 hl (k := 7) rfl rfl (by decide) rfl (fun ls hl => ?_)
          refine lv_goto (tgt := 11) hx hb dX2_polynomial_110 (by decide) ?_
          exact lp1 u18 b0 b1 x2 x4 r18 (x5 + 1) hF _ _ _ _ hc hr hS ls (lv_sub hl [5, 6, 7, 2, 1, 0] rfl)
  have lp1 := loop n
  have ml1 := moX2_polynomial_r n
  have hc : cst h0 0 0 h := by rw [eh0]; exact cst_0
  unfold GX2_polynomial GX2_polynomial_0 at hF
  refine lv_iconst (v := 0) hx hb dX2_polynomial_0 (by decide) ?_
  refine lv_istore_n (lv' := [(3, .int 0), (0, .ref a0), (1, .ref a1), (2, .int p2)]) hx hb dX2_polynomial_1 rfl hl (by decide) rfl (fun ls hl => ?_)
  refine lv_iconst (v := 1) hx hb dX2_polynomial_2 (by decide) ?_
  refine lv_istore (lv' := [(4, .int 1), (3, .int 0), (0, .ref a0), (1, .ref a1), (2, .int p2)]) hx hb dX2_polynomial_3 hl (by decide) rfl (fun ls hl => ?_)
  refine lv_aload_n hx hb dX2_polynomial_5 rfl (lv_at hl 3 rfl) ?_
  obtain ⟨fc1, ec1, hF⟩ := gC_s hF
  obtain ⟨r1, u1, e1, hF⟩ := bnd_s hF
  have mm1 : hle u1 out.2 := (show Mo u1 _ from mo_tr hle_rf (ml1 u1 a0 a1 p2 (0 : Int32) (1 : Int32) r1)) _ hF
  obtain ⟨mc1, ms1, hmc1, hms1⟩ := up_of (moX8_first h a1 _ e1)
  replace hc := cst_call hc hmc1 hms1
  refine h_calli (va_runV (As := []) (rest := []) ⟨hx, hb, hml, hown, hts⟩ (mgX8_first l D A h a1 _ e1 mc1 ms1 hmc1 hms1) (cwV 0 hts (lw_V q1789 q1778 q1779 q139 q1780) rfl rfl rfl (by decide +kernel) ⟨Nat.le_of_ble_eq_true rfl, Nat.le_of_ble_eq_true rfl⟩) (h_preV hGr hr hS ec1 (by decide) (q := (RX8, TX8, 3)) rfl _) rfl rfl hl.1 rfl (lv_room (Nat.le_of_ble_eq_true rfl)) dX2_polynomial_6 ⟨(bud hc mm1 hmc hms).1, (bud hc mm1 hmc hms).2⟩) hS (fun rr uu H locs hw hr hS => ?_)
  obtain rfl : u1 = uu := (congrArg Prod.snd hw).symm
  obtain rfl : r1 = rr := (congrArg Prod.fst hw).symm
  refine lv_istore (lv' := [(5, .int r1), (4, .int 1), (3, .int 0), (0, .ref a0), (1, .ref a1), (2, .int p2)]) hx hb dX2_polynomial_9 hl (by decide) rfl (fun ls hl => ?_)
  exact lp1 u1 a0 a1 p2 (0 : Int32) (1 : Int32) r1 hF _ _ _ _ hc hr hS ls (lv_sub hl [3, 4, 5, 2, 1, 0] rfl)

def GX2_coefficients_1 (R : Nat → Hp → Nat → Nat → Nat → Nat → Int32 → Int32 → Int32 → Nat → Int32 → Option (Nat × Hp)) (n : Nat) (h : Hp) (b0 : Nat) (b1 : Nat) (b2 : Nat) (b3 : Nat) (x4 : Int32) (x5 : Int32) (x6 : Int32) (b7 : Nat) (x8 : Int32) : Option (Nat × Hp) := gC h b1 7 (bnd (GX8_first h b1) (fun r7 u7 => gC u7 b1 7 (bnd (GX8_many u7 b1) (fun r8 u8 => if (r7 + r8) ≤ x4 then some (b3, u8) else gC u8 b0 2 (bnd (GX2_projected_2 n u8 b0 x4 x4) (fun r10 u10 => gC u10 b1 7 (bnd (GX8_first u10 b1) (fun r11 u11 => if x4 ≤ r11 then aL u11 b3 (fun x13_ => nA u11 0 x13_ (fun a14_ h14 => R 2 h14 b0 b1 b2 b3 x4 r10 (0 : Int32) a14_ (0 : Int32))) else gQ u11 b0 2 0 (fun x15_ => gC u11 b0 2 (bnd (GX2_norm u11 b0 x4) (fun r16 u16 => gC u16 b0 2 (bnd (GX2_norm u16 b0 (x4 - 1)) (fun r17 u17 => gC u17 x15_ 3 (bnd (GX3_quotient u17 x15_ r16 r17) (fun r18 u18 => aL u18 b3 (fun x19_ => nA u18 0 x19_ (fun a20_ h20 => R 2 h20 b0 b1 b2 b3 x4 r10 r18 a20_ (0 : Int32))))))))))))))))))
def GX2_coefficients_2 (R : Nat → Hp → Nat → Nat → Nat → Nat → Int32 → Int32 → Int32 → Nat → Int32 → Option (Nat × Hp)) (n : Nat) (h : Hp) (b0 : Nat) (b1 : Nat) (b2 : Nat) (b3 : Nat) (x4 : Int32) (x5 : Int32) (x6 : Int32) (b7 : Nat) (x8 : Int32) : Option (Nat × Hp) := aL h b3 (fun x21_ => if x21_ ≤ x8 then R 1 h b0 b1 b3 b7 (x4 + 1) x5 x6 b7 x8 else gQ h b0 2 0 (fun x23_ => gQ h b0 2 0 (fun x24_ => if x8 ≤ 0 then aI h b3 0 x8 (fun x26_ => gC h x24_ 3 (bnd (GX3_lessTimes h x24_ (0 : Int32) x5 x26_) (fun r27 u27 => aI u27 b2 0 x8 (fun x28_ => gC u27 x23_ 3 (bnd (GX3_lessTimes u27 x23_ r27 x6 x28_) (fun r29 u29 => sI u29 b7 0 x8 r29 (fun h30 => R 2 h30 b0 b1 b2 b3 x4 x5 x6 b7 (x8 + 1)))))))) else aI h b3 0 (x8 - 1) (fun x31_ => aI h b3 0 x8 (fun x32_ => gC h x24_ 3 (bnd (GX3_lessTimes h x24_ x31_ x5 x32_) (fun r33 u33 => aI u33 b2 0 x8 (fun x34_ => gC u33 x23_ 3 (bnd (GX3_lessTimes u33 x23_ r33 x6 x34_) (fun r35 u35 => sI u35 b7 0 x8 r35 (fun h36 => R 2 h36 b0 b1 b2 b3 x4 x5 x6 b7 (x8 + 1))))))))))))
def GX2_coefficients_r : Nat → Nat → Hp → Nat → Nat → Nat → Nat → Int32 → Int32 → Int32 → Nat → Int32 → Option (Nat × Hp)
  | 0 => fun _ _ _ _ _ _ _ _ _ _ _ => none
  | n + 1 => fun k => match k with | 1 => GX2_coefficients_1 (GX2_coefficients_r n) n | _ => GX2_coefficients_2 (GX2_coefficients_r n) n
def GX2_coefficients_0 (R : Nat → Hp → Nat → Nat → Nat → Nat → Int32 → Int32 → Int32 → Nat → Int32 → Option (Nat × Hp)) (n : Nat) (h : Hp) (a0 : Nat) (a1 : Nat) : Option (Nat × Hp) := gC h a1 7 (bnd (GX8_many h a1) (fun r1 u1 => nA u1 0 (r1 + 1) (fun a2_ h2 => gC h2 a1 7 (bnd (GX8_many h2 a1) (fun r3 u3 => nA u3 0 (r3 + 1) (fun a4_ h4 => sI h4 a4_ 0 (0 : Int32) (1 : Int32) (fun h5 => gC h5 a1 7 (bnd (GX8_first h5 a1) (fun r6 u6 => R 1 u6 a0 a1 a2_ a4_ r6 0 0 0 0)))))))))
def GX2_coefficients (n : Nat) (h : Hp) (a0 : Nat) (a1 : Nat) : Option (Nat × Hp) := GX2_coefficients_0 (GX2_coefficients_r n) n h a0 a1
theorem moX2_coefficients_r (n : Nat) : (∀ (h : Hp) (b0 : Nat) (b1 : Nat) (b2 : Nat) (b3 : Nat) (x4 : Int32) (x5 : Int32) (x6 : Int32) (b7 : Nat) (x8 : Int32), Mo h (GX2_coefficients_r n 1 h b0 b1 b2 b3 x4 x5 x6 b7 x8)) ∧ (∀ (h : Hp) (b0 : Nat) (b1 : Nat) (b2 : Nat) (b3 : Nat) (x4 : Int32) (x5 : Int32) (x6 : Int32) (b7 : Nat) (x8 : Int32), Mo h (GX2_coefficients_r n 2 h b0 b1 b2 b3 x4 x5 x6 b7 x8)) := by
  induction n with
  | zero => exact ⟨(fun _ _ _ _ _ _ _ _ _ _ => mo_no), (fun _ _ _ _ _ _ _ _ _ _ => mo_no)⟩
  | succ n ih =>
    obtain ⟨ml1, ml2⟩ := ih
    exact ⟨(fun h b0 b1 b2 b3 x4 x5 x6 b7 x8 => show Mo h (GX2_coefficients_1 (GX2_coefficients_r n) n h b0 b1 b2 b3 x4 x5 x6 b7 x8) from by unfold GX2_coefficients_1; exact mo_gC (mo_bnd (moX8_first h b1) hle_rf (fun r7 u7 m7 => mo_gC (mo_bnd (moX8_many u7 b1) m7 (fun r8 u8 m8 => mo_ite (mo_ret m8) (mo_gC (mo_bnd (moX2_projected_2 n u8 b0 x4 x4) m8 (fun r10 u10 m10 => mo_gC (mo_bnd (moX8_first u10 b1) m10 (fun r11 u11 m11 => mo_ite (mo_aL (fun x13_ => mo_nA m11 (fun a14_ h14 m14 => mo_tr m14 (ml2 h14 b0 b1 b2 b3 x4 r10 (0 : Int32) a14_ (0 : Int32))))) (mo_gQ (fun x15_ => mo_gC (mo_bnd (moX2_norm u11 b0 x4) m11 (fun r16 u16 m16 => mo_gC (mo_bnd (moX2_norm u16 b0 (x4 - 1)) m16 (fun r17 u17 m17 => mo_gC (mo_bnd (moX3_quotient u17 x15_ r16 r17) m17 (fun r18 u18 m18 => mo_aL (fun x19_ => mo_nA m18 (fun a20_ h20 m20 => mo_tr m20 (ml2 h20 b0 b1 b2 b3 x4 r10 r18 a20_ (0 : Int32)))))))))))))))))))))),
      (fun h b0 b1 b2 b3 x4 x5 x6 b7 x8 => show Mo h (GX2_coefficients_2 (GX2_coefficients_r n) n h b0 b1 b2 b3 x4 x5 x6 b7 x8) from by unfold GX2_coefficients_2; exact mo_aL (fun x21_ => mo_ite (mo_tr hle_rf (ml1 h b0 b1 b3 b7 (x4 + 1) x5 x6 b7 x8)) (mo_gQ (fun x23_ => mo_gQ (fun x24_ => mo_ite (mo_aI (fun x26_ => mo_gC (mo_bnd (moX3_lessTimes h x24_ (0 : Int32) x5 x26_) hle_rf (fun r27 u27 m27 => mo_aI (fun x28_ => mo_gC (mo_bnd (moX3_lessTimes u27 x23_ r27 x6 x28_) m27 (fun r29 u29 m29 => mo_sI m29 (fun h30 m30 => mo_tr m30 (ml2 h30 b0 b1 b2 b3 x4 x5 x6 b7 (x8 + 1)))))))))) (mo_aI (fun x31_ => mo_aI (fun x32_ => mo_gC (mo_bnd (moX3_lessTimes h x24_ x31_ x5 x32_) hle_rf (fun r33 u33 m33 => mo_aI (fun x34_ => mo_gC (mo_bnd (moX3_lessTimes u33 x23_ r33 x6 x34_) m33 (fun r35 u35 m35 => mo_sI m35 (fun h36 m36 => mo_tr m36 (ml2 h36 b0 b1 b2 b3 x4 x5 x6 b7 (x8 + 1))))))))))))))))⟩
theorem moX2_coefficients (n : Nat) (h : Hp) (a0 : Nat) (a1 : Nat) : Mo h (GX2_coefficients n h a0 a1) := by
  obtain ⟨ml1, ml2⟩ := moX2_coefficients_r n
  unfold GX2_coefficients GX2_coefficients_0
  exact mo_gC (mo_bnd (moX8_many h a1) hle_rf (fun r1 u1 m1 => mo_nA m1 (fun a2_ h2 m2 => mo_gC (mo_bnd (moX8_many h2 a1) m2 (fun r3 u3 m3 => mo_nA m3 (fun a4_ h4 m4 => mo_sI m4 (fun h5 m5 => mo_gC (mo_bnd (moX8_first h5 a1) m5 (fun r6 u6 m6 => mo_tr m6 (ml1 u6 a0 a1 a2_ a4_ r6 0 0 0 0))))))))))
set_option maxHeartbeats 4000000 in
set_option maxRecDepth 100000 in
theorem mgX2_coefficients (l : Launch) (D : HD) (A : Nat → Prop) (h : Hp) (n : Nat) (a0 : Nat) (a1 : Nat) (out : Nat × Hp) (hF : GX2_coefficients n h a0 a1 = some out) (mc ms : Nat) (hmc : hCc out.2 = hCc h + mc) (hms : hSl out.2 = hSl h + ms) : Met l yX2_coefficients (ws_ yX2_coefficients cX2_coefficients 9 (some (.array .int))) ({ frames := 5, cells := mc, slots := ms, locals := 108 }) (va_Pc [.ref a0, .ref a1] (hW D A h)) (va_Qr (fun _ : Hp => True) (fun u r t => (r, u) = out ∧ hW D A u t) A) mc ms A := by
  refine Met.ofW (cc := cX2_coefficients) (maxL := 9) (ret := (some (.array .int))) (by decide +kernel) rfl ?_
  intro p e s m args below meth c s₁ B hml hv
  obtain ⟨rfl, hr, hGr⟩ := hv
  have hx := B.exec
  have hb := B.bytes
  have hret := B.returns
  have hts := atoms_spec (ws := (ws_ yX2_coefficients cX2_coefficients 9 (some (.array .int)))) B.pre
  have hts : ∀ w ∈ lw_all, w.before _ s = true := fun w h => hts w (List.mem_cons_of_mem _ h)
  have hown : s.vm.findClass RX2 = some m.cls := findClass_of_methodNamed B.named
  have hlocks := B.notSynchronized
  have hS : va_S A s.heap s.heap [] := va_S.rf
  have hc : cst h 0 0 h := cst_0
  have hl := lv_entry ([.ref a0, .ref a1]) (n := 9) (Nat.le_of_ble_eq_true rfl)
  rw [lg_entry_eq]
  generalize (lg_sl ([.ref a0, .ref a1]) ++ List.replicate (9 - (lg_sl ([.ref a0, .ref a1])).length) Slot.unset).toArray = ls at hl ⊢
  have hl : lv_has ls 9 [(0, .ref a0), (1, .ref a1)] := hl
  obtain ⟨h0, eh0⟩ : ∃ z, z = h := ⟨_, rfl⟩
  rw [← eh0] at hmc hms
  have loop : ∀ n : Nat, (∀ (h : Hp) (b0 : Nat) (b1 : Nat) (b2 : Nat) (b3 : Nat) (x4 : Int32) (x5 : Int32) (x6 : Int32) (b7 : Nat) (x8 : Int32), GX2_coefficients_r n 1 h b0 b1 b2 b3 x4 x5 x6 b7 x8 = some out → ∀ (H : Heap) (locs : List Loc) (cells slots : Nat), cst h0 cells slots h → hR D A h H → va_S A s.heap H locs → ∀ ls : Array Slot, lv_has ls 9 [(0, .ref b0), (1, .ref b1), (2, .ref b2), (3, .ref b3), (4, .int x4)] → W p l e (headSpec (ws_ yX2_coefficients cX2_coefficients 9 (some (.array .int))) ({ frames := 5, cells := mc, slots := ms, locals := 108 })).room s m ([.ref a0, .ref a1] : List Value).toArray below meth c H locs cells slots (MQ below (va_Qr (fun _ : Hp => True) (fun u r t => (r, u) = out ∧ hW D A u t) A) ([.ref a0, .ref a1] : List Value).toArray s mc ms A) (F0 m 28 ls [])) ∧ (∀ (h : Hp) (b0 : Nat) (b1 : Nat) (b2 : Nat) (b3 : Nat) (x4 : Int32) (x5 : Int32) (x6 : Int32) (b7 : Nat) (x8 : Int32), GX2_coefficients_r n 2 h b0 b1 b2 b3 x4 x5 x6 b7 x8 = some out → ∀ (H : Heap) (locs : List Loc) (cells slots : Nat), cst h0 cells slots h → hR D A h H → va_S A s.heap H locs → ∀ ls : Array Slot, lv_has ls 9 [(0, .ref b0), (1, .ref b1), (2, .ref b2), (3, .ref b3), (4, .int x4), (5, .int x5), (6, .int x6), (7, .ref b7), (8, .int x8)] → W p l e (headSpec (ws_ yX2_coefficients cX2_coefficients 9 (some (.array .int))) ({ frames := 5, cells := mc, slots := ms, locals := 108 })).room s m ([.ref a0, .ref a1] : List Value).toArray below meth c H locs cells slots (MQ below (va_Qr (fun _ : Hp => True) (fun u r t => (r, u) = out ∧ hW D A u t) A) ([.ref a0, .ref a1] : List Value).toArray s mc ms A) (F0 m 97 ls [])) := by
    intro n
    induction n with
    | zero => exact ⟨(fun _ _ _ _ _ _ _ _ _ _ h => nomatch h), (fun _ _ _ _ _ _ _ _ _ _ h => nomatch h)⟩
    | succ n ih =>
      obtain ⟨lp1, lp2⟩ := ih
      obtain ⟨ml1, ml2⟩ := moX2_coefficients_r n
      refine ⟨?_, ?_⟩
      · intro h b0 b1 b2 b3 x4 x5 x6 b7 x8 hF H locs cells slots hc hr hS ls hl
        replace hF : GX2_coefficients_1 (GX2_coefficients_r n) n h b0 b1 b2 b3 x4 x5 x6 b7 x8 = some out := hF
        unfold GX2_coefficients_1 at hF
        refine lv_iload hx hb dX2_coefficients_28 (lv_at hl 4 rfl) ?_
        refine lv_aload_n hx hb dX2_coefficients_30 rfl (lv_at hl 1 rfl) ?_
        obtain ⟨fc7, ec7, hF⟩ := gC_s hF
        obtain ⟨r7, u7, e7, hF⟩ := bnd_s hF
        have mm7 : hle u7 out.2 := (show Mo u7 _ from mo_gC (mo_bnd (moX8_many u7 b1) hle_rf (fun r8 u8 m8 => mo_ite (mo_ret m8) (mo_gC (mo_bnd (moX2_projected_2 n u8 b0 x4 x4) m8 (fun r10 u10 m10 => mo_gC (mo_bnd (moX8_first u10 b1) m10 (fun r11 u11 m11 => mo_ite (mo_aL (fun x13_ => mo_nA m11 (fun a14_ h14 m14 => mo_tr m14 (ml2 h14 b0 b1 b2 b3 x4 r10 (0 : Int32) a14_ (0 : Int32))))) (mo_gQ (fun x15_ => mo_gC (mo_bnd (moX2_norm u11 b0 x4) m11 (fun r16 u16 m16 => mo_gC (mo_bnd (moX2_norm u16 b0 (x4 - 1)) m16 (fun r17 u17 m17 => mo_gC (mo_bnd (moX3_quotient u17 x15_ r16 r17) m17 (fun r18 u18 m18 => mo_aL (fun x19_ => mo_nA m18 (fun a20_ h20 m20 => mo_tr m20 (ml2 h20 b0 b1 b2 b3 x4 r10 r18 a20_ (0 : Int32)))))))))))))))))))) _ hF
        obtain ⟨mc7, ms7, hmc7, hms7⟩ := up_of (moX8_first h b1 _ e7)
        replace hc := cst_call hc hmc7 hms7
        refine h_calli (va_runV (As := []) (rest := [.int x4]) ⟨hx, hb, hml, hown, hts⟩ (mgX8_first l D A h b1 _ e7 mc7 ms7 hmc7 hms7) (cwV 0 hts (lw_V q1789 q1778 q1779 q139 q1780) rfl rfl rfl (by decide +kernel) ⟨Nat.le_of_ble_eq_true rfl, Nat.le_of_ble_eq_true rfl⟩) (h_preV hGr hr hS ec7 (by decide) (q := (RX8, TX8, 3)) rfl _) rfl rfl hl.1 rfl (lv_room (Nat.le_of_ble_eq_true rfl)) dX2_coefficients_31 ⟨(bud hc mm7 hmc hms).1, (bud hc mm7 hmc hms).2⟩) hS (fun rr uu H locs hw hr hS => ?_)
        obtain rfl : u7 = uu := (congrArg Prod.snd hw).symm
        obtain rfl : r7 = rr := (congrArg Prod.fst hw).symm
        refine lv_aload_n hx hb dX2_coefficients_34 rfl (lv_at hl 1 rfl) ?_
        obtain ⟨fc8, ec8, hF⟩ := gC_s hF
        obtain ⟨r8, u8, e8, hF⟩ := bnd_s hF
        have mm8 : hle u8 out.2 := (show Mo u8 _ from mo_ite (mo_ret hle_rf) (mo_gC (mo_bnd (moX2_projected_2 n u8 b0 x4 x4) hle_rf (fun r10 u10 m10 => mo_gC (mo_bnd (moX8_first u10 b1) m10 (fun r11 u11 m11 => mo_ite (mo_aL (fun x13_ => mo_nA m11 (fun a14_ h14 m14 => mo_tr m14 (ml2 h14 b0 b1 b2 b3 x4 r10 (0 : Int32) a14_ (0 : Int32))))) (mo_gQ (fun x15_ => mo_gC (mo_bnd (moX2_norm u11 b0 x4) m11 (fun r16 u16 m16 => mo_gC (mo_bnd (moX2_norm u16 b0 (x4 - 1)) m16 (fun r17 u17 m17 => mo_gC (mo_bnd (moX3_quotient u17 x15_ r16 r17) m17 (fun r18 u18 m18 => mo_aL (fun x19_ => mo_nA m18 (fun a20_ h20 m20 => mo_tr m20 (ml2 h20 b0 b1 b2 b3 x4 r10 r18 a20_ (0 : Int32)))))))))))))))))) _ hF
        obtain ⟨mc8, ms8, hmc8, hms8⟩ := up_of (moX8_many u7 b1 _ e8)
        replace hc := cst_call hc hmc8 hms8
        refine h_calli (va_runV (As := []) (rest := [.int r7, .int x4]) ⟨hx, hb, hml, hown, hts⟩ (mgX8_many l D A u7 b1 _ e8 mc8 ms8 hmc8 hms8) (cwV 0 hts (lw_V q1047 q1048 q1049 q139 q1050) rfl rfl rfl (by decide +kernel) ⟨Nat.le_of_ble_eq_true rfl, Nat.le_of_ble_eq_true rfl⟩) (h_preV hGr hr hS ec8 (by decide) (q := (RX8, TX8, 3)) rfl _) rfl rfl hl.1 rfl (lv_room (Nat.le_of_ble_eq_true rfl)) dX2_coefficients_35 ⟨(bud hc mm8 hmc hms).1, (bud hc mm8 hmc hms).2⟩) hS (fun rr uu H locs hw hr hS => ?_)
        obtain rfl : u8 = uu := (congrArg Prod.snd hw).symm
        obtain rfl : r8 = rr := (congrArg Prod.fst hw).symm
        refine lv_iadd hx hb dX2_coefficients_38 ?_
        refine lv_icmp_ge (tgt := 167) hx hb dX2_coefficients_39 (by decide) (fun c9 => ?_) (fun c9 => ?_)
        · replace hF := it_t c9 hF
          refine lv_aload_n hx hb dX2_coefficients_167 rfl (lv_at hl 3 rfl) ?_
          have bz := bud_r hc hF hmc hms
          refine W.widen (k := mc) (n := ms) bz.1 bz.2 ?_
          exact W.aret (v := .ref b3) hx hb hret (Or.inr ⟨_, rfl⟩) (Or.inr ⟨_, rfl⟩) (fun t ht hWm => ⟨⟨u8, b3, rfl, trivial, Option.some.inj hF, h_end hGr hr hS ht hWm⟩, hS.F ht⟩) hS.2.2 dX2_coefficients_168
        · replace hF := it_f c9 hF
          refine lv_aload_n hx hb dX2_coefficients_42 rfl (lv_at hl 0 rfl) ?_
          refine lv_iload hx hb dX2_coefficients_43 (lv_at hl 4 rfl) ?_
          refine lv_iload hx hb dX2_coefficients_45 (lv_at hl 4 rfl) ?_
          obtain ⟨fc10, ec10, hF⟩ := gC_s hF
          obtain ⟨r10, u10, e10, hF⟩ := bnd_s hF
          have mm10 : hle u10 out.2 := (show Mo u10 _ from mo_gC (mo_bnd (moX8_first u10 b1) hle_rf (fun r11 u11 m11 => mo_ite (mo_aL (fun x13_ => mo_nA m11 (fun a14_ h14 m14 => mo_tr m14 (ml2 h14 b0 b1 b2 b3 x4 r10 (0 : Int32) a14_ (0 : Int32))))) (mo_gQ (fun x15_ => mo_gC (mo_bnd (moX2_norm u11 b0 x4) m11 (fun r16 u16 m16 => mo_gC (mo_bnd (moX2_norm u16 b0 (x4 - 1)) m16 (fun r17 u17 m17 => mo_gC (mo_bnd (moX3_quotient u17 x15_ r16 r17) m17 (fun r18 u18 m18 => mo_aL (fun x19_ => mo_nA m18 (fun a20_ h20 m20 => mo_tr m20 (ml2 h20 b0 b1 b2 b3 x4 r10 r18 a20_ (0 : Int32))))))))))))))) _ hF
          obtain ⟨mc10, ms10, hmc10, hms10⟩ := up_of (moX2_projected_2 n u8 b0 x4 x4 _ e10)
          replace hc := cst_call hc hmc10 hms10
          refine h_calli (va_runV (As := [.int x4, .int x4]) (rest := []) ⟨hx, hb, hml, hown, hts⟩ (mgX2_projected_2 l D A u8 n b0 x4 x4 _ e10 mc10 ms10 hmc10 hms10) (cwV 2 hts (lw_V q1141 q1142 q1143 q102 q1144) rfl rfl rfl (by decide +kernel) ⟨Nat.le_of_ble_eq_true rfl, Nat.le_of_ble_eq_true rfl⟩) (h_preV hGr hr hS ec10 (by decide) (q := (RX2, TX2, 11)) rfl _) rfl rfl hl.1 rfl (lv_room (Nat.le_of_ble_eq_true rfl)) dX2_coefficients_47 ⟨(bud hc mm10 hmc hms).1, (bud hc mm10 hmc hms).2⟩) hS (fun rr uu H locs hw hr hS => ?_)
          obtain rfl : u10 = uu := (congrArg Prod.snd hw).symm
          obtain rfl : r10 = rr := (congrArg Prod.fst hw).symm
          refine lv_istore (lv' := [(5, .int r10), (0, .ref b0), (1, .ref b1), (2, .ref b2), (3, .ref b3), (4, .int x4)]) hx hb dX2_coefficients_50 hl (by decide) rfl (fun ls hl => ?_)
          refine lv_iload hx hb dX2_coefficients_52 (lv_at hl 5 rfl) ?_
          refine lv_aload_n hx hb dX2_coefficients_54 rfl (lv_at hl 2 rfl) ?_
          obtain ⟨fc11, ec11, hF⟩ := gC_s hF
          obtain ⟨r11, u11, e11, hF⟩ := bnd_s hF
          have mm11 : hle u11 out.2 := (show Mo u11 _ from mo_ite (mo_aL (fun x13_ => mo_nA hle_rf (fun a14_ h14 m14 => mo_tr m14 (ml2 h14 b0 b1 b2 b3 x4 r10 (0 : Int32) a14_ (0 : Int32))))) (mo_gQ (fun x15_ => mo_gC (mo_bnd (moX2_norm u11 b0 x4) hle_rf (fun r16 u16 m16 => mo_gC (mo_bnd (moX2_norm u16 b0 (x4 - 1)) m16 (fun r17 u17 m17 => mo_gC (mo_bnd (moX3_quotient u17 x15_ r16 r17) m17 (fun r18 u18 m18 => mo_aL (fun x19_ => mo_nA m18 (fun a20_ h20 m20 => mo_tr m20 (ml2 h20 b0 b1 b2 b3 x4 r10 r18 a20_ (0 : Int32))))))))))))) _ hF
          obtain ⟨mc11, ms11, hmc11, hms11⟩ := up_of (moX8_first u10 b1 _ e11)
          replace hc := cst_call hc hmc11 hms11
          refine h_calli (va_runV (As := []) (rest := [.int x4]) ⟨hx, hb, hml, hown, hts⟩ (mgX8_first l D A u10 b1 _ e11 mc11 ms11 hmc11 hms11) (cwV 0 hts (lw_V q1789 q1778 q1779 q139 q1780) rfl rfl rfl (by decide +kernel) ⟨Nat.le_of_ble_eq_true rfl, Nat.le_of_ble_eq_true rfl⟩) (h_preV hGr hr hS ec11 (by decide) (q := (RX8, TX8, 3)) rfl _) rfl rfl hl.1 rfl (lv_room (Nat.le_of_ble_eq_true rfl)) dX2_coefficients_55 ⟨(bud hc mm11 hmc hms).1, (bud hc mm11 hmc hms).2⟩) hS (fun rr uu H locs hw hr hS => ?_)
          obtain rfl : u11 = uu := (congrArg Prod.snd hw).symm
          obtain rfl : r11 = rr := (congrArg Prod.fst hw).symm
          refine lv_icmp_le (tgt := 85) hx hb dX2_coefficients_58 (by decide) (fun c12 => ?_) (fun c12 => ?_)
          · replace hF := it_t c12 hF
            refine lv_iconst (v := 0) hx hb dX2_coefficients_85 (by decide) ?_
            refine lv_istore (lv' := [(6, .int 0), (5, .int r10), (0, .ref b0), (1, .ref b1), (2, .ref b2), (3, .ref b3), (4, .int x4)]) hx hb dX2_coefficients_86 hl (by decide) rfl (fun ls hl => ?_)
            refine lv_aload_n hx hb dX2_coefficients_88 rfl (lv_at hl 5 rfl) ?_
            obtain ⟨k13, y13, e13, g13, hF⟩ := aL_s hF
            obtain ⟨x13_, ex13⟩ : ∃ z, z = Int32.ofNat y13.1 := ⟨_, rfl⟩
            rw [← ex13] at hF
            refine h_alen hx hb hGr hr e13 g13 dX2_coefficients_89 ?_
            rw [← ex13]
            obtain ⟨a14_, h14, ea14, eh14, g14, hF⟩ := nA_s hF
            have mm14 : hle h14 out.2 := (show Mo h14 _ from mo_tr hle_rf (ml2 h14 b0 b1 b2 b3 x4 r10 (0 : Int32) a14_ (0 : Int32))) _ hF
            replace hc := cst_new hc eh14
            refine h_newI hx hb (hts _ q177) hGr hr hS g14 (bud hc mm14 hmc hms).1 (bud hc mm14 hmc hms).2 dX2_coefficients_90 (fun H hr hS => ?_)
            rw [← eh14] at hr
            rw [← ea14]
            refine lv_astore (lv' := [(7, .ref a14_), (6, .int 0), (5, .int r10), (0, .ref b0), (1, .ref b1), (2, .ref b2), (3, .ref b3), (4, .int x4)]) hx hb dX2_coefficients_92 hl (by decide) rfl (fun ls hl => ?_)
            refine lv_iconst (v := 0) hx hb dX2_coefficients_94 (by decide) ?_
            refine lv_istore (lv' := [(8, .int 0), (7, .ref a14_), (6, .int 0), (5, .int r10), (0, .ref b0), (1, .ref b1), (2, .ref b2), (3, .ref b3), (4, .int x4)]) hx hb dX2_coefficients_95 hl (by decide) rfl (fun ls hl => ?_)
            exact lp2 h14 b0 b1 b2 b3 x4 r10 (0 : Int32) a14_ (0 : Int32) hF _ _ _ _ hc hr hS ls (lv_sub hl [4, 5, 6, 7, 8, 3, 2, 1, 0] rfl)
          · replace hF := it_f c12 hF
            refine lv_aload_n hx hb dX2_coefficients_61 rfl (lv_at hl 1 rfl) ?_
            obtain ⟨fs15, x15_, e15, f15, hF⟩ := gQ_s hF
            refine h_get (C := RX2) (T := TX2) (N := 11) hx hb hts in_X2 hown hGr hr e15 (by decide) rfl 0 (by decide) (hts _ q562) (fun _ h9 => h9) f15 dX2_coefficients_62 ?_
            refine lv_aload_n hx hb dX2_coefficients_65 rfl (lv_at hl 1 rfl) ?_
            refine lv_iload hx hb dX2_coefficients_66 (lv_at hl 5 rfl) ?_
            obtain ⟨fc16, ec16, hF⟩ := gC_s hF
            obtain ⟨r16, u16, e16, hF⟩ := bnd_s hF
            have mm16 : hle u16 out.2 := (show Mo u16 _ from mo_gC (mo_bnd (moX2_norm u16 b0 (x4 - 1)) hle_rf (fun r17 u17 m17 => mo_gC (mo_bnd (moX3_quotient u17 x15_ r16 r17) m17 (fun r18 u18 m18 => mo_aL (fun x19_ => mo_nA m18 (fun a20_ h20 m20 => mo_tr m20 (ml2 h20 b0 b1 b2 b3 x4 r10 r18 a20_ (0 : Int32))))))))) _ hF
            obtain ⟨mc16, ms16, hmc16, hms16⟩ := up_of (moX2_norm u11 b0 x4 _ e16)
            replace hc := cst_call hc hmc16 hms16
            refine h_calli (va_runV (As := [.int x4]) (rest := [.ref x15_]) ⟨hx, hb, hml, hown, hts⟩ (mgX2_norm l D A u11 b0 x4 _ e16 mc16 ms16 hmc16 hms16) (cwV 1 hts (lw_V q1021 q1022 q1023 q102 q1024) rfl rfl rfl (by decide +kernel) ⟨Nat.le_of_ble_eq_true rfl, Nat.le_of_ble_eq_true rfl⟩) (h_preV hGr hr hS ec16 (by decide) (q := (RX2, TX2, 11)) rfl _) rfl rfl hl.1 rfl (lv_room (Nat.le_of_ble_eq_true rfl)) dX2_coefficients_68 ⟨(bud hc mm16 hmc hms).1, (bud hc mm16 hmc hms).2⟩) hS (fun rr uu H locs hw hr hS => ?_)
            obtain rfl : u16 = uu := (congrArg Prod.snd hw).symm
            obtain rfl : r16 = rr := (congrArg Prod.fst hw).symm
            refine lv_aload_n hx hb dX2_coefficients_71 rfl (lv_at hl 1 rfl) ?_
            refine lv_iload hx hb dX2_coefficients_72 (lv_at hl 5 rfl) ?_
            refine lv_iconst (v := 1) hx hb dX2_coefficients_74 (by decide) ?_
            refine lv_isub hx hb dX2_coefficients_75 ?_
            obtain ⟨fc17, ec17, hF⟩ := gC_s hF
            obtain ⟨r17, u17, e17, hF⟩ := bnd_s hF
            have mm17 : hle u17 out.2 := (show Mo u17 _ from mo_gC (mo_bnd (moX3_quotient u17 x15_ r16 r17) hle_rf (fun r18 u18 m18 => mo_aL (fun x19_ => mo_nA m18 (fun a20_ h20 m20 => mo_tr m20 (ml2 h20 b0 b1 b2 b3 x4 r10 r18 a20_ (0 : Int32))))))) _ hF
            obtain ⟨mc17, ms17, hmc17, hms17⟩ := up_of (moX2_norm u16 b0 (x4 - 1) _ e17)
            replace hc := cst_call hc hmc17 hms17
            refine h_calli (va_runV (As := [.int (x4 - 1)]) (rest := [.int r16, .ref x15_]) ⟨hx, hb, hml, hown, hts⟩ (mgX2_norm l D A u16 b0 (x4 - 1) _ e17 mc17 ms17 hmc17 hms17) (cwV 1 hts (lw_V q1021 q1022 q1023 q102 q1024) rfl rfl rfl (by decide +kernel) ⟨Nat.le_of_ble_eq_true rfl, Nat.le_of_ble_eq_true rfl⟩) (h_preV hGr hr hS ec17 (by decide) (q := (RX2, TX2, 11)) rfl _) rfl rfl hl.1 rfl (lv_room (Nat.le_of_ble_eq_true rfl)) dX2_coefficients_76 ⟨(bud hc mm17 hmc hms).1, (bud hc mm17 hmc hms).2⟩) hS (fun rr uu H locs hw hr hS => ?_)
            obtain rfl : u17 = uu := (congrArg Prod.snd hw).symm
            obtain rfl : r17 = rr := (congrArg Prod.fst hw).symm
            obtain ⟨fc18, ec18, hF⟩ := gC_s hF
            obtain ⟨r18, u18, e18, hF⟩ := bnd_s hF
            have mm18 : hle u18 out.2 := (show Mo u18 _ from mo_aL (fun x19_ => mo_nA hle_rf (fun a20_ h20 m20 => mo_tr m20 (ml2 h20 b0 b1 b2 b3 x4 r10 r18 a20_ (0 : Int32))))) _ hF
            obtain ⟨mc18, ms18, hmc18, hms18⟩ := up_of (moX3_quotient u17 x15_ r16 r17 _ e18)
            replace hc := cst_call hc hmc18 hms18
            refine h_calli (va_runV (As := [.int r16, .int r17]) (rest := []) ⟨hx, hb, hml, hown, hts⟩ (mgX3_quotient l D A u17 x15_ r16 r17 _ e18 mc18 ms18 hmc18 hms18) (cwV 2 hts (lw_V q1029 q1030 q1031 q103 q1032) rfl rfl rfl (by decide +kernel) ⟨Nat.le_of_ble_eq_true rfl, Nat.le_of_ble_eq_true rfl⟩) (h_preV hGr hr hS ec18 (by decide) (q := (RX3, TX3, 2)) rfl _) rfl rfl hl.1 rfl (lv_room (Nat.le_of_ble_eq_true rfl)) dX2_coefficients_79 ⟨(bud hc mm18 hmc hms).1, (bud hc mm18 hmc hms).2⟩) hS (fun rr uu H locs hw hr hS => ?_)
            obtain rfl : u18 = uu := (congrArg Prod.snd hw).symm
            obtain rfl : r18 = rr := (congrArg Prod.fst hw).symm
            refine lv_goto (tgt := 86) hx hb dX2_coefficients_82 (by decide) ?_
            refine lv_istore (lv' := [(6, .int r18), (5, .int r10), (0, .ref b0), (1, .ref b1), (2, .ref b2), (3, .ref b3), (4, .int x4)]) hx hb dX2_coefficients_86 hl (by decide) rfl (fun ls hl => ?_)
            refine lv_aload_n hx hb dX2_coefficients_88 rfl (lv_at hl 5 rfl) ?_
            obtain ⟨k19, y19, e19, g19, hF⟩ := aL_s hF
            obtain ⟨x19_, ex19⟩ : ∃ z, z = Int32.ofNat y19.1 := ⟨_, rfl⟩
            rw [← ex19] at hF
            refine h_alen hx hb hGr hr e19 g19 dX2_coefficients_89 ?_
            rw [← ex19]
            obtain ⟨a20_, h20, ea20, eh20, g20, hF⟩ := nA_s hF
            have mm20 : hle h20 out.2 := (show Mo h20 _ from mo_tr hle_rf (ml2 h20 b0 b1 b2 b3 x4 r10 r18 a20_ (0 : Int32))) _ hF
            replace hc := cst_new hc eh20
            refine h_newI hx hb (hts _ q177) hGr hr hS g20 (bud hc mm20 hmc hms).1 (bud hc mm20 hmc hms).2 dX2_coefficients_90 (fun H hr hS => ?_)
            rw [← eh20] at hr
            rw [← ea20]
            refine lv_astore (lv' := [(7, .ref a20_), (6, .int r18), (5, .int r10), (0, .ref b0), (1, .ref b1), (2, .ref b2), (3, .ref b3), (4, .int x4)]) hx hb dX2_coefficients_92 hl (by decide) rfl (fun ls hl => ?_)
            refine lv_iconst (v := 0) hx hb dX2_coefficients_94 (by decide) ?_
            refine lv_istore (lv' := [(8, .int 0), (7, .ref a20_), (6, .int r18), (5, .int r10), (0, .ref b0), (1, .ref b1), (2, .ref b2), (3, .ref b3), (4, .int x4)]) hx hb dX2_coefficients_95 hl (by decide) rfl (fun ls hl => ?_)
            exact lp2 h20 b0 b1 b2 b3 x4 r10 r18 a20_ (0 : Int32) hF _ _ _ _ hc hr hS ls (lv_sub hl [4, 5, 6, 7, 8, 3, 2, 1, 0] rfl)
      · intro h b0 b1 b2 b3 x4 x5 x6 b7 x8 hF H locs cells slots hc hr hS ls hl
        replace hF : GX2_coefficients_2 (GX2_coefficients_r n) n h b0 b1 b2 b3 x4 x5 x6 b7 x8 = some out := hF
        unfold GX2_coefficients_2 at hF
        refine lv_iload hx hb dX2_coefficients_97 (lv_at hl 8 rfl) ?_
        refine lv_aload_n hx hb dX2_coefficients_99 rfl (lv_at hl 3 rfl) ?_
        obtain ⟨k21, y21, e21, g21, hF⟩ := aL_s hF
        obtain ⟨x21_, ex21⟩ : ∃ z, z = Int32.ofNat y21.1 := ⟨_, rfl⟩
        rw [← ex21] at hF
        refine h_alen hx hb hGr hr e21 g21 dX2_coefficients_100 ?_
        rw [← ex21]
        refine lv_icmp_ge (tgt := 156) hx hb dX2_coefficients_101 (by decide) (fun c22 => ?_) (fun c22 => ?_)
        · replace hF := it_t c22 hF
          refine lv_aload_n hx hb dX2_coefficients_156 rfl (lv_at hl 3 rfl) ?_
          refine lv_astore_n (lv' := [(2, .ref b3), (0, .ref b0), (1, .ref b1), (3, .ref b3), (4, .int x4), (5, .int x5), (6, .int x6), (7, .ref b7), (8, .int x8)]) hx hb dX2_coefficients_157 rfl hl (by decide) rfl (fun ls hl => ?_)
          refine lv_aload hx hb dX2_coefficients_158 (lv_at hl 7 rfl) ?_
          refine lv_astore_n (lv' := [(3, .ref b7), (2, .ref b3), (0, .ref b0), (1, .ref b1), (4, .int x4), (5, .int x5), (6, .int x6), (7, .ref b7), (8, .int x8)]) hx hb dX2_coefficients_160 rfl hl (by decide) rfl (fun ls hl => ?_)
          refine lv_iinc (v := (x4 + 1)) (lv' := [(4, .int (x4 + 1)), (3, .ref b7), (2, .ref b3), (0, .ref b0), (1, .ref b1), (5, .int x5), (6, .int x6), (7, .ref b7), (8, .int x8)]) hx hb dX2_coefficients_161 hl (k := 4) rfl rfl (by decide) rfl (fun ls hl => ?_)
          refine lv_goto (tgt := 28) hx hb dX2_coefficients_164 (by decide) ?_
          exact lp1 h b0 b1 b3 b7 (x4 + 1) x5 x6 b7 x8 hF _ _ _ _ hc hr hS ls (lv_sub hl [3, 4, 2, 1, 0] rfl)
        · replace hF := it_f c22 hF
          refine lv_aload hx hb dX2_coefficients_104 (lv_at hl 7 rfl) ?_
          refine lv_iload hx hb dX2_coefficients_106 (lv_at hl 8 rfl) ?_
          refine lv_aload_n hx hb dX2_coefficients_108 rfl (lv_at hl 0 rfl) ?_
          obtain ⟨fs23, x23_, e23, f23, hF⟩ := gQ_s hF
          refine h_get (C := RX2) (T := TX2) (N := 11) hx hb hts in_X2 hown hGr hr e23 (by decide) rfl 0 (by decide) (hts _ q562) (fun _ h9 => h9) f23 dX2_coefficients_109 ?_
          refine lv_aload_n hx hb dX2_coefficients_112 rfl (lv_at hl 0 rfl) ?_
          obtain ⟨fs24, x24_, e24, f24, hF⟩ := gQ_s hF
          refine h_get (C := RX2) (T := TX2) (N := 11) hx hb hts in_X2 hown hGr hr e24 (by decide) rfl 0 (by decide) (hts _ q562) (fun _ h9 => h9) f24 dX2_coefficients_113 ?_
          refine lv_iload hx hb dX2_coefficients_116 (lv_at hl 8 rfl) ?_
          refine lv_if_le (tgt := 130) hx hb dX2_coefficients_118 (by decide) (fun c25 => ?_) (fun c25 => ?_)
          · replace hF := it_t c25 hF
            refine lv_iconst (v := 0) hx hb dX2_coefficients_130 (by decide) ?_
            refine lv_iload hx hb dX2_coefficients_131 (lv_at hl 5 rfl) ?_
            refine lv_aload_n hx hb dX2_coefficients_133 rfl (lv_at hl 3 rfl) ?_
            refine lv_iload hx hb dX2_coefficients_134 (lv_at hl 8 rfl) ?_
            obtain ⟨n26, f26, e26, g26, hF⟩ := aI_s hF
            obtain ⟨x26_, ex26⟩ : ∃ z, z = f26 (x8).toNatClampNeg := ⟨_, rfl⟩
            rw [← ex26] at hF
            refine h_iald hx hb hGr hr 0 rfl e26 g26 dX2_coefficients_136 ?_
            rw [← ex26]
            obtain ⟨fc27, ec27, hF⟩ := gC_s hF
            obtain ⟨r27, u27, e27, hF⟩ := bnd_s hF
            have mm27 : hle u27 out.2 := (show Mo u27 _ from mo_aI (fun x28_ => mo_gC (mo_bnd (moX3_lessTimes u27 x23_ r27 x6 x28_) hle_rf (fun r29 u29 m29 => mo_sI m29 (fun h30 m30 => mo_tr m30 (ml2 h30 b0 b1 b2 b3 x4 x5 x6 b7 (x8 + 1))))))) _ hF
            obtain ⟨mc27, ms27, hmc27, hms27⟩ := up_of (moX3_lessTimes h x24_ (0 : Int32) x5 x26_ _ e27)
            replace hc := cst_call hc hmc27 hms27
            refine h_calli (va_runV (As := [.int 0, .int x5, .int x26_]) (rest := [.ref x23_, .int x8, .ref b7]) ⟨hx, hb, hml, hown, hts⟩ (mgX3_lessTimes l D A h x24_ (0 : Int32) x5 x26_ _ e27 mc27 ms27 hmc27 hms27) (cwV 3 hts (lw_V q1790 q1042 q1043 q103 q1044) rfl rfl rfl (by decide +kernel) ⟨Nat.le_of_ble_eq_true rfl, Nat.le_of_ble_eq_true rfl⟩) (h_preV hGr hr hS ec27 (by decide) (q := (RX3, TX3, 2)) rfl _) rfl rfl hl.1 rfl (lv_room (Nat.le_of_ble_eq_true rfl)) dX2_coefficients_137 ⟨(bud hc mm27 hmc hms).1, (bud hc mm27 hmc hms).2⟩) hS (fun rr uu H locs hw hr hS => ?_)
            obtain rfl : u27 = uu := (congrArg Prod.snd hw).symm
            obtain rfl : r27 = rr := (congrArg Prod.fst hw).symm
            refine lv_iload hx hb dX2_coefficients_140 (lv_at hl 6 rfl) ?_
            refine lv_aload_n hx hb dX2_coefficients_142 rfl (lv_at hl 2 rfl) ?_
            refine lv_iload hx hb dX2_coefficients_143 (lv_at hl 8 rfl) ?_
            obtain ⟨n28, f28, e28, g28, hF⟩ := aI_s hF
            obtain ⟨x28_, ex28⟩ : ∃ z, z = f28 (x8).toNatClampNeg := ⟨_, rfl⟩
            rw [← ex28] at hF
            refine h_iald hx hb hGr hr 0 rfl e28 g28 dX2_coefficients_145 ?_
            rw [← ex28]
            obtain ⟨fc29, ec29, hF⟩ := gC_s hF
            obtain ⟨r29, u29, e29, hF⟩ := bnd_s hF
            have mm29 : hle u29 out.2 := (show Mo u29 _ from mo_sI hle_rf (fun h30 m30 => mo_tr m30 (ml2 h30 b0 b1 b2 b3 x4 x5 x6 b7 (x8 + 1)))) _ hF
            obtain ⟨mc29, ms29, hmc29, hms29⟩ := up_of (moX3_lessTimes u27 x23_ r27 x6 x28_ _ e29)
            replace hc := cst_call hc hmc29 hms29
            refine h_calli (va_runV (As := [.int r27, .int x6, .int x28_]) (rest := [.int x8, .ref b7]) ⟨hx, hb, hml, hown, hts⟩ (mgX3_lessTimes l D A u27 x23_ r27 x6 x28_ _ e29 mc29 ms29 hmc29 hms29) (cwV 3 hts (lw_V q1790 q1042 q1043 q103 q1044) rfl rfl rfl (by decide +kernel) ⟨Nat.le_of_ble_eq_true rfl, Nat.le_of_ble_eq_true rfl⟩) (h_preV hGr hr hS ec29 (by decide) (q := (RX3, TX3, 2)) rfl _) rfl rfl hl.1 rfl (lv_room (Nat.le_of_ble_eq_true rfl)) dX2_coefficients_146 ⟨(bud hc mm29 hmc hms).1, (bud hc mm29 hmc hms).2⟩) hS (fun rr uu H locs hw hr hS => ?_)
            obtain rfl : u29 = uu := (congrArg Prod.snd hw).symm
            obtain rfl : r29 = rr := (congrArg Prod.fst hw).symm
            obtain ⟨n30, f30, e30, lo30, g30, hF⟩ := sI_s hF
            obtain ⟨h30, eh30⟩ : ∃ z, z = hPut u29 b7 (.inl (0, n30, .inl (upd f30 (x8).toNatClampNeg r29))) := ⟨_, rfl⟩
            rw [← eh30] at hF
            refine h_iast hx hb hGr hr hS 0 rfl e30 (x := r29) g30 lo30 dX2_coefficients_149 (fun H locs hr hS => ?_)
            rw [← eh30] at hr
            replace hc := cst_put hc eh30
            refine lv_iinc (v := (x8 + 1)) (lv' := [(8, .int (x8 + 1)), (0, .ref b0), (1, .ref b1), (2, .ref b2), (3, .ref b3), (4, .int x4), (5, .int x5), (6, .int x6), (7, .ref b7)]) hx hb dX2_coefficients_150 hl (k := 8) rfl rfl (by decide) rfl (fun ls hl => ?_)
            refine lv_goto (tgt := 97) hx hb dX2_coefficients_153 (by decide) ?_
            exact lp2 h30 b0 b1 b2 b3 x4 x5 x6 b7 (x8 + 1) hF _ _ _ _ hc hr hS ls (lv_sub hl [1, 2, 3, 4, 5, 6, 7, 8, 0] rfl)
          · replace hF := it_f c25 hF
            refine lv_aload_n hx hb dX2_coefficients_121 rfl (lv_at hl 3 rfl) ?_
            refine lv_iload hx hb dX2_coefficients_122 (lv_at hl 8 rfl) ?_
            refine lv_iconst (v := 1) hx hb dX2_coefficients_124 (by decide) ?_
            refine lv_isub hx hb dX2_coefficients_125 ?_
            obtain ⟨n31, f31, e31, g31, hF⟩ := aI_s hF
            obtain ⟨x31_, ex31⟩ : ∃ z, z = f31 ((x8 - 1)).toNatClampNeg := ⟨_, rfl⟩
            rw [← ex31] at hF
            refine h_iald hx hb hGr hr 0 rfl e31 g31 dX2_coefficients_126 ?_
            rw [← ex31]
            refine lv_goto (tgt := 131) hx hb dX2_coefficients_127 (by decide) ?_
            refine lv_iload hx hb dX2_coefficients_131 (lv_at hl 5 rfl) ?_
            refine lv_aload_n hx hb dX2_coefficients_133 rfl (lv_at hl 3 rfl) ?_
            refine lv_iload hx hb dX2_coefficients_134 (lv_at hl 8 rfl) ?_
            obtain ⟨n32, f32, e32, g32, hF⟩ := aI_s hF
            obtain ⟨x32_, ex32⟩ : ∃ z, z = f32 (x8).toNatClampNeg := ⟨_, rfl⟩
            rw [← ex32] at hF
            refine h_iald hx hb hGr hr 0 rfl e32 g32 dX2_coefficients_136 ?_
            rw [← ex32]
            obtain ⟨fc33, ec33, hF⟩ := gC_s hF
            obtain ⟨r33, u33, e33, hF⟩ := bnd_s hF
            have mm33 : hle u33 out.2 := (show Mo u33 _ from mo_aI (fun x34_ => mo_gC (mo_bnd (moX3_lessTimes u33 x23_ r33 x6 x34_) hle_rf (fun r35 u35 m35 => mo_sI m35 (fun h36 m36 => mo_tr m36 (ml2 h36 b0 b1 b2 b3 x4 x5 x6 b7 (x8 + 1))))))) _ hF
            obtain ⟨mc33, ms33, hmc33, hms33⟩ := up_of (moX3_lessTimes h x24_ x31_ x5 x32_ _ e33)
            replace hc := cst_call hc hmc33 hms33
            refine h_calli (va_runV (As := [.int x31_, .int x5, .int x32_]) (rest := [.ref x23_, .int x8, .ref b7]) ⟨hx, hb, hml, hown, hts⟩ (mgX3_lessTimes l D A h x24_ x31_ x5 x32_ _ e33 mc33 ms33 hmc33 hms33) (cwV 3 hts (lw_V q1790 q1042 q1043 q103 q1044) rfl rfl rfl (by decide +kernel) ⟨Nat.le_of_ble_eq_true rfl, Nat.le_of_ble_eq_true rfl⟩) (h_preV hGr hr hS ec33 (by decide) (q := (RX3, TX3, 2)) rfl _) rfl rfl hl.1 rfl (lv_room (Nat.le_of_ble_eq_true rfl)) dX2_coefficients_137 ⟨(bud hc mm33 hmc hms).1, (bud hc mm33 hmc hms).2⟩) hS (fun rr uu H locs hw hr hS => ?_)
            obtain rfl : u33 = uu := (congrArg Prod.snd hw).symm
            obtain rfl : r33 = rr := (congrArg Prod.fst hw).symm
            refine lv_iload hx hb dX2_coefficients_140 (lv_at hl 6 rfl) ?_
            refine lv_aload_n hx hb dX2_coefficients_142 rfl (lv_at hl 2 rfl) ?_
            refine lv_iload hx hb dX2_coefficients_143 (lv_at hl 8 rfl) ?_
            obtain ⟨n34, f34, e34, g34, hF⟩ := aI_s hF
            obtain ⟨x34_, ex34⟩ : ∃ z, z = f34 (x8).toNatClampNeg := ⟨_, rfl⟩
            rw [← ex34] at hF
            refine h_iald hx hb hGr hr 0 rfl e34 g34 dX2_coefficients_145 ?_
            rw [← ex34]
            obtain ⟨fc35, ec35, hF⟩ := gC_s hF
            obtain ⟨r35, u35, e35, hF⟩ := bnd_s hF
            have mm35 : hle u35 out.2 := (show Mo u35 _ from mo_sI hle_rf (fun h36 m36 => mo_tr m36 (ml2 h36 b0 b1 b2 b3 x4 x5 x6 b7 (x8 + 1)))) _ hF
            obtain ⟨mc35, ms35, hmc35, hms35⟩ := up_of (moX3_lessTimes u33 x23_ r33 x6 x34_ _ e35)
            replace hc := cst_call hc hmc35 hms35
            refine h_calli (va_runV (As := [.int r33, .int x6, .int x34_]) (rest := [.int x8, .ref b7]) ⟨hx, hb, hml, hown, hts⟩ (mgX3_lessTimes l D A u33 x23_ r33 x6 x34_ _ e35 mc35 ms35 hmc35 hms35) (cwV 3 hts (lw_V q1790 q1042 q1043 q103 q1044) rfl rfl rfl (by decide +kernel) ⟨Nat.le_of_ble_eq_true rfl, Nat.le_of_ble_eq_true rfl⟩) (h_preV hGr hr hS ec35 (by decide) (q := (RX3, TX3, 2)) rfl _) rfl rfl hl.1 rfl (lv_room (Nat.le_of_ble_eq_true rfl)) dX2_coefficients_146 ⟨(bud hc mm35 hmc hms).1, (bud hc mm35 hmc hms).2⟩) hS (fun rr uu H locs hw hr hS => ?_)
            obtain rfl : u35 = uu := (congrArg Prod.snd hw).symm
            obtain rfl : r35 = rr := (congrArg Prod.fst hw).symm
            obtain ⟨n36, f36, e36, lo36, g36, hF⟩ := sI_s hF
            obtain ⟨h36, eh36⟩ : ∃ z, z = hPut u35 b7 (.inl (0, n36, .inl (upd f36 (x8).toNatClampNeg r35))) := ⟨_, rfl⟩
            rw [← eh36] at hF
            refine h_iast hx hb hGr hr hS 0 rfl e36 (x := r35) g36 lo36 dX2_coefficients_149 (fun H locs hr hS => ?_)
            rw [← eh36] at hr
            replace hc := cst_put hc eh36
            refine lv_iinc (v := (x8 + 1)) (lv' := [(8, .int (x8 + 1)), (0, .ref b0), (1, .ref b1), (2, .ref b2), (3, .ref b3), (4, .int x4), (5, .int x5), (6, .int x6), (7, .ref b7)]) hx hb dX2_coefficients_150 hl (k := 8) rfl rfl (by decide) rfl (fun ls hl => ?_)
            refine lv_goto (tgt := 97) hx hb dX2_coefficients_153 (by decide) ?_
            exact lp2 h36 b0 b1 b2 b3 x4 x5 x6 b7 (x8 + 1) hF _ _ _ _ hc hr hS ls (lv_sub hl [1, 2, 3, 4, 5, 6, 7, 8, 0] rfl)
  obtain ⟨lp1, lp2⟩ := loop n
  obtain ⟨ml1, ml2⟩ := moX2_coefficients_r n
  have hc : cst h0 0 0 h := by rw [eh0]; exact cst_0
  unfold GX2_coefficients GX2_coefficients_0 at hF
  refine lv_aload_n hx hb dX2_coefficients_0 rfl (lv_at hl 1 rfl) ?_
  obtain ⟨fc1, ec1, hF⟩ := gC_s hF
  obtain ⟨r1, u1, e1, hF⟩ := bnd_s hF
  have mm1 : hle u1 out.2 := (show Mo u1 _ from mo_nA hle_rf (fun a2_ h2 m2 => mo_gC (mo_bnd (moX8_many h2 a1) m2 (fun r3 u3 m3 => mo_nA m3 (fun a4_ h4 m4 => mo_sI m4 (fun h5 m5 => mo_gC (mo_bnd (moX8_first h5 a1) m5 (fun r6 u6 m6 => mo_tr m6 (ml1 u6 a0 a1 a2_ a4_ r6 0 0 0 0))))))))) _ hF
  obtain ⟨mc1, ms1, hmc1, hms1⟩ := up_of (moX8_many h a1 _ e1)
  replace hc := cst_call hc hmc1 hms1
  refine h_calli (va_runV (As := []) (rest := []) ⟨hx, hb, hml, hown, hts⟩ (mgX8_many l D A h a1 _ e1 mc1 ms1 hmc1 hms1) (cwV 0 hts (lw_V q1047 q1048 q1049 q139 q1050) rfl rfl rfl (by decide +kernel) ⟨Nat.le_of_ble_eq_true rfl, Nat.le_of_ble_eq_true rfl⟩) (h_preV hGr hr hS ec1 (by decide) (q := (RX8, TX8, 3)) rfl _) rfl rfl hl.1 rfl (lv_room (Nat.le_of_ble_eq_true rfl)) dX2_coefficients_1 ⟨(bud hc mm1 hmc hms).1, (bud hc mm1 hmc hms).2⟩) hS (fun rr uu H locs hw hr hS => ?_)
  obtain rfl : u1 = uu := (congrArg Prod.snd hw).symm
  obtain rfl : r1 = rr := (congrArg Prod.fst hw).symm
  refine lv_iconst (v := 1) hx hb dX2_coefficients_4 (by decide) ?_
  refine lv_iadd hx hb dX2_coefficients_5 ?_
  obtain ⟨a2_, h2, ea2, eh2, g2, hF⟩ := nA_s hF
  have mm2 : hle h2 out.2 := (show Mo h2 _ from mo_gC (mo_bnd (moX8_many h2 a1) hle_rf (fun r3 u3 m3 => mo_nA m3 (fun a4_ h4 m4 => mo_sI m4 (fun h5 m5 => mo_gC (mo_bnd (moX8_first h5 a1) m5 (fun r6 u6 m6 => mo_tr m6 (ml1 u6 a0 a1 a2_ a4_ r6 0 0 0 0)))))))) _ hF
  replace hc := cst_new hc eh2
  refine h_newI hx hb (hts _ q177) hGr hr hS g2 (bud hc mm2 hmc hms).1 (bud hc mm2 hmc hms).2 dX2_coefficients_6 (fun H hr hS => ?_)
  rw [← eh2] at hr
  rw [← ea2]
  refine lv_astore_n (lv' := [(2, .ref a2_), (0, .ref a0), (1, .ref a1)]) hx hb dX2_coefficients_8 rfl hl (by decide) rfl (fun ls hl => ?_)
  refine lv_aload_n hx hb dX2_coefficients_9 rfl (lv_at hl 2 rfl) ?_
  obtain ⟨fc3, ec3, hF⟩ := gC_s hF
  obtain ⟨r3, u3, e3, hF⟩ := bnd_s hF
  have mm3 : hle u3 out.2 := (show Mo u3 _ from mo_nA hle_rf (fun a4_ h4 m4 => mo_sI m4 (fun h5 m5 => mo_gC (mo_bnd (moX8_first h5 a1) m5 (fun r6 u6 m6 => mo_tr m6 (ml1 u6 a0 a1 a2_ a4_ r6 0 0 0 0)))))) _ hF
  obtain ⟨mc3, ms3, hmc3, hms3⟩ := up_of (moX8_many h2 a1 _ e3)
  replace hc := cst_call hc hmc3 hms3
  refine h_calli (va_runV (As := []) (rest := []) ⟨hx, hb, hml, hown, hts⟩ (mgX8_many l D A h2 a1 _ e3 mc3 ms3 hmc3 hms3) (cwV 0 hts (lw_V q1047 q1048 q1049 q139 q1050) rfl rfl rfl (by decide +kernel) ⟨Nat.le_of_ble_eq_true rfl, Nat.le_of_ble_eq_true rfl⟩) (h_preV hGr hr hS ec3 (by decide) (q := (RX8, TX8, 3)) rfl _) rfl rfl hl.1 rfl (lv_room (Nat.le_of_ble_eq_true rfl)) dX2_coefficients_10 ⟨(bud hc mm3 hmc hms).1, (bud hc mm3 hmc hms).2⟩) hS (fun rr uu H locs hw hr hS => ?_)
  obtain rfl : u3 = uu := (congrArg Prod.snd hw).symm
  obtain rfl : r3 = rr := (congrArg Prod.fst hw).symm
  refine lv_iconst (v := 1) hx hb dX2_coefficients_13 (by decide) ?_
  refine lv_iadd hx hb dX2_coefficients_14 ?_
  obtain ⟨a4_, h4, ea4, eh4, g4, hF⟩ := nA_s hF
  have mm4 : hle h4 out.2 := (show Mo h4 _ from mo_sI hle_rf (fun h5 m5 => mo_gC (mo_bnd (moX8_first h5 a1) m5 (fun r6 u6 m6 => mo_tr m6 (ml1 u6 a0 a1 a2_ a4_ r6 0 0 0 0))))) _ hF
  replace hc := cst_new hc eh4
  refine h_newI hx hb (hts _ q177) hGr hr hS g4 (bud hc mm4 hmc hms).1 (bud hc mm4 hmc hms).2 dX2_coefficients_15 (fun H hr hS => ?_)
  rw [← eh4] at hr
  rw [← ea4]
  refine lv_astore_n (lv' := [(3, .ref a4_), (2, .ref a2_), (0, .ref a0), (1, .ref a1)]) hx hb dX2_coefficients_17 rfl hl (by decide) rfl (fun ls hl => ?_)
  refine lv_aload_n hx hb dX2_coefficients_18 rfl (lv_at hl 0 rfl) ?_
  refine lv_iconst (v := 0) hx hb dX2_coefficients_19 (by decide) ?_
  refine lv_iconst (v := 1) hx hb dX2_coefficients_20 (by decide) ?_
  obtain ⟨n5, f5, e5, lo5, g5, hF⟩ := sI_s hF
  obtain ⟨h5, eh5⟩ : ∃ z, z = hPut h4 a4_ (.inl (0, n5, .inl (upd f5 ((0 : Int32)).toNatClampNeg (1 : Int32)))) := ⟨_, rfl⟩
  rw [← eh5] at hF
  refine h_iast hx hb hGr hr hS 0 rfl e5 (x := 1) g5 lo5 dX2_coefficients_21 (fun H locs hr hS => ?_)
  rw [← eh5] at hr
  replace hc := cst_put hc eh5
  refine lv_aload_n hx hb dX2_coefficients_22 rfl (lv_at hl 3 rfl) ?_
  obtain ⟨fc6, ec6, hF⟩ := gC_s hF
  obtain ⟨r6, u6, e6, hF⟩ := bnd_s hF
  have mm6 : hle u6 out.2 := (show Mo u6 _ from mo_tr hle_rf (ml1 u6 a0 a1 a2_ a4_ r6 0 0 0 0)) _ hF
  obtain ⟨mc6, ms6, hmc6, hms6⟩ := up_of (moX8_first h5 a1 _ e6)
  replace hc := cst_call hc hmc6 hms6
  refine h_calli (va_runV (As := []) (rest := []) ⟨hx, hb, hml, hown, hts⟩ (mgX8_first l D A h5 a1 _ e6 mc6 ms6 hmc6 hms6) (cwV 0 hts (lw_V q1789 q1778 q1779 q139 q1780) rfl rfl rfl (by decide +kernel) ⟨Nat.le_of_ble_eq_true rfl, Nat.le_of_ble_eq_true rfl⟩) (h_preV hGr hr hS ec6 (by decide) (q := (RX8, TX8, 3)) rfl _) rfl rfl hl.1 rfl (lv_room (Nat.le_of_ble_eq_true rfl)) dX2_coefficients_23 ⟨(bud hc mm6 hmc hms).1, (bud hc mm6 hmc hms).2⟩) hS (fun rr uu H locs hw hr hS => ?_)
  obtain rfl : u6 = uu := (congrArg Prod.snd hw).symm
  obtain rfl : r6 = rr := (congrArg Prod.fst hw).symm
  refine lv_istore (lv' := [(4, .int r6), (3, .ref a4_), (2, .ref a2_), (0, .ref a0), (1, .ref a1)]) hx hb dX2_coefficients_26 hl (by decide) rfl (fun ls hl => ?_)
  exact lp1 u6 a0 a1 a2_ a4_ r6 0 0 0 0 hF _ _ _ _ hc hr hS ls (lv_sub hl [3, 4, 2, 1, 0] rfl)

def GX2_applied_1 (R : Nat → Hp → Nat → Nat → Nat → Nat → Int32 → Option (Nat × Hp)) (n : Nat) (h : Hp) (b0 : Nat) (b1 : Nat) (b2 : Nat) (b3 : Nat) (x4 : Int32) : Option (Nat × Hp) := if x4 < 0 then some (b3, h) else gQ h b0 2 0 (fun x7_ => gC h b0 2 (bnd (GX2_times n h b0 b3) (fun r8 u8 => gQ u8 b0 2 0 (fun x9_ => aI u8 b1 0 x4 (fun x10_ => gC u8 x9_ 3 (bnd (GX3_less u8 x9_ (0 : Int32) x10_) (fun r11 u11 => gC u11 x7_ 3 (bnd (GX3_without n u11 x7_ r8 r11 b2) (fun r12 u12 => R 1 u12 b0 b1 b2 r12 (x4 + (-1)))))))))))
def GX2_applied_r : Nat → Nat → Hp → Nat → Nat → Nat → Nat → Int32 → Option (Nat × Hp)
  | 0 => fun _ _ _ _ _ _ _ => none
  | n + 1 => fun k => match k with  | _ => GX2_applied_1 (GX2_applied_r n) n
def GX2_applied_0 (R : Nat → Hp → Nat → Nat → Nat → Nat → Int32 → Option (Nat × Hp)) (n : Nat) (h : Hp) (a0 : Nat) (a1 : Nat) (a2 : Nat) : Option (Nat × Hp) := nW h 4 [.null] 1 (fun a1_ h1 => gI h1 a0 2 1 (fun x2_ => nA h1 0 x2_ (fun a3_ h3 => bnd (GX4_init h3 a1_ a3_) (fun r4 u4 => aL u4 a1 (fun x5_ => R 1 u4 a0 a1 a2 a1_ (x5_ - 1))))))
def GX2_applied (n : Nat) (h : Hp) (a0 : Nat) (a1 : Nat) (a2 : Nat) : Option (Nat × Hp) := GX2_applied_0 (GX2_applied_r n) n h a0 a1 a2
theorem moX2_applied_r (n : Nat) : (∀ (h : Hp) (b0 : Nat) (b1 : Nat) (b2 : Nat) (b3 : Nat) (x4 : Int32), Mo h (GX2_applied_r n 1 h b0 b1 b2 b3 x4)) := by
  induction n with
  | zero => exact (fun _ _ _ _ _ _ => mo_no)
  | succ n ih =>
    have ml1 := ih
    exact (fun h b0 b1 b2 b3 x4 => show Mo h (GX2_applied_1 (GX2_applied_r n) n h b0 b1 b2 b3 x4) from by unfold GX2_applied_1; exact mo_ite (mo_ret hle_rf) (mo_gQ (fun x7_ => mo_gC (mo_bnd (moX2_times n h b0 b3) hle_rf (fun r8 u8 m8 => mo_gQ (fun x9_ => mo_aI (fun x10_ => mo_gC (mo_bnd (moX3_less u8 x9_ (0 : Int32) x10_) m8 (fun r11 u11 m11 => mo_gC (mo_bnd (moX3_without n u11 x7_ r8 r11 b2) m11 (fun r12 u12 m12 => mo_tr m12 (ml1 u12 b0 b1 b2 r12 (x4 + (-1))))))))))))))
theorem moX2_applied (n : Nat) (h : Hp) (a0 : Nat) (a1 : Nat) (a2 : Nat) : Mo h (GX2_applied n h a0 a1 a2) := by
  have ml1 := moX2_applied_r n
  unfold GX2_applied GX2_applied_0
  exact mo_nW hle_rf (fun a1_ h1 m1 => mo_gI (fun x2_ => mo_nA m1 (fun a3_ h3 m3 => mo_bnd (moX4_init h3 a1_ a3_) m3 (fun r4 u4 m4 => mo_aL (fun x5_ => mo_tr m4 (ml1 u4 a0 a1 a2 a1_ (x5_ - 1)))))))
set_option maxHeartbeats 4000000 in
set_option maxRecDepth 100000 in
theorem mgX2_applied (l : Launch) (D : HD) (A : Nat → Prop) (h : Hp) (n : Nat) (a0 : Nat) (a1 : Nat) (a2 : Nat) (out : Nat × Hp) (hF : GX2_applied n h a0 a1 a2 = some out) (mc ms : Nat) (hmc : hCc out.2 = hCc h + mc) (hms : hSl out.2 = hSl h + ms) : Met l yX2_applied (ws_ yX2_applied cX2_applied 5 (some (.object "ExactChains$Vector"))) ({ frames := 4, cells := mc, slots := ms, locals := 86 }) (va_Pc [.ref a0, .ref a1, .ref a2] (hW D A h)) (va_Qr (fun _ : Hp => True) (fun u r t => (r, u) = out ∧ hW D A u t) A) mc ms A := by
  refine Met.ofW (cc := cX2_applied) (maxL := 5) (ret := (some (.object "ExactChains$Vector"))) (by decide +kernel) rfl ?_
  intro p e s m args below meth c s₁ B hml hv
  obtain ⟨rfl, hr, hGr⟩ := hv
  have hx := B.exec
  have hb := B.bytes
  have hret := B.returns
  have hts := atoms_spec (ws := (ws_ yX2_applied cX2_applied 5 (some (.object "ExactChains$Vector")))) B.pre
  have hts : ∀ w ∈ lw_all, w.before _ s = true := fun w h => hts w (List.mem_cons_of_mem _ h)
  have hown : s.vm.findClass RX2 = some m.cls := findClass_of_methodNamed B.named
  have hlocks := B.notSynchronized
  have hS : va_S A s.heap s.heap [] := va_S.rf
  have hc : cst h 0 0 h := cst_0
  have hl := lv_entry ([.ref a0, .ref a1, .ref a2]) (n := 5) (Nat.le_of_ble_eq_true rfl)
  rw [lg_entry_eq]
  generalize (lg_sl ([.ref a0, .ref a1, .ref a2]) ++ List.replicate (5 - (lg_sl ([.ref a0, .ref a1, .ref a2])).length) Slot.unset).toArray = ls at hl ⊢
  have hl : lv_has ls 5 [(0, .ref a0), (1, .ref a1), (2, .ref a2)] := hl
  obtain ⟨h0, eh0⟩ : ∃ z, z = h := ⟨_, rfl⟩
  rw [← eh0] at hmc hms
  have loop : ∀ n : Nat, (∀ (h : Hp) (b0 : Nat) (b1 : Nat) (b2 : Nat) (b3 : Nat) (x4 : Int32), GX2_applied_r n 1 h b0 b1 b2 b3 x4 = some out → ∀ (H : Heap) (locs : List Loc) (cells slots : Nat), cst h0 cells slots h → hR D A h H → va_S A s.heap H locs → ∀ ls : Array Slot, lv_has ls 5 [(0, .ref b0), (1, .ref b1), (2, .ref b2), (3, .ref b3), (4, .int x4)] → W p l e (headSpec (ws_ yX2_applied cX2_applied 5 (some (.object "ExactChains$Vector"))) ({ frames := 4, cells := mc, slots := ms, locals := 86 })).room s m ([.ref a0, .ref a1, .ref a2] : List Value).toArray below meth c H locs cells slots (MQ below (va_Qr (fun _ : Hp => True) (fun u r t => (r, u) = out ∧ hW D A u t) A) ([.ref a0, .ref a1, .ref a2] : List Value).toArray s mc ms A) (F0 m 20 ls [])) := by
    intro n
    induction n with
    | zero => exact (fun _ _ _ _ _ _ h => nomatch h)
    | succ n ih =>
      have lp1 := ih
      have ml1 := moX2_applied_r n
      intro h b0 b1 b2 b3 x4 hF H locs cells slots hc hr hS ls hl
      replace hF : GX2_applied_1 (GX2_applied_r n) n h b0 b1 b2 b3 x4 = some out := hF
      unfold GX2_applied_1 at hF
      refine lv_iload hx hb dX2_applied_20 (lv_at hl 4 rfl) ?_
      refine lv_if_lt (tgt := 57) hx hb dX2_applied_22 (by decide) (fun c6 => ?_) (fun c6 => ?_)
      · replace hF := it_t c6 hF
        refine lv_aload_n hx hb dX2_applied_57 rfl (lv_at hl 3 rfl) ?_
        have bz := bud_r hc hF hmc hms
        refine W.widen (k := mc) (n := ms) bz.1 bz.2 ?_
        exact W.aret (v := .ref b3) hx hb hret (Or.inl ⟨_, rfl⟩) (Or.inr ⟨_, rfl⟩) (fun t ht hWm => ⟨⟨h, b3, rfl, trivial, Option.some.inj hF, h_end hGr hr hS ht hWm⟩, hS.F ht⟩) hS.2.2 dX2_applied_58
      · replace hF := it_f c6 hF
        refine lv_aload_n hx hb dX2_applied_25 rfl (lv_at hl 0 rfl) ?_
        obtain ⟨fs7, x7_, e7, f7, hF⟩ := gQ_s hF
        refine h_get (C := RX2) (T := TX2) (N := 11) hx hb hts in_X2 hown hGr hr e7 (by decide) rfl 0 (by decide) (hts _ q562) (fun _ h9 => h9) f7 dX2_applied_26 ?_
        refine lv_aload_n hx hb dX2_applied_29 rfl (lv_at hl 0 rfl) ?_
        refine lv_aload_n hx hb dX2_applied_30 rfl (lv_at hl 3 rfl) ?_
        obtain ⟨fc8, ec8, hF⟩ := gC_s hF
        obtain ⟨r8, u8, e8, hF⟩ := bnd_s hF
        have mm8 : hle u8 out.2 := (show Mo u8 _ from mo_gQ (fun x9_ => mo_aI (fun x10_ => mo_gC (mo_bnd (moX3_less u8 x9_ (0 : Int32) x10_) hle_rf (fun r11 u11 m11 => mo_gC (mo_bnd (moX3_without n u11 x7_ r8 r11 b2) m11 (fun r12 u12 m12 => mo_tr m12 (ml1 u12 b0 b1 b2 r12 (x4 + (-1)))))))))) _ hF
        obtain ⟨mc8, ms8, hmc8, hms8⟩ := up_of (moX2_times n h b0 b3 _ e8)
        replace hc := cst_call hc hmc8 hms8
        refine h_callr (va_runV (As := [.ref b3]) (rest := [.ref x7_]) ⟨hx, hb, hml, hown, hts⟩ (mgX2_times l D A h n b0 b3 _ e8 mc8 ms8 hmc8 hms8) (cwV 1 hts (lw_V q1055 q1056 q1057 q102 q1058) rfl rfl rfl (by decide +kernel) ⟨Nat.le_of_ble_eq_true rfl, Nat.le_of_ble_eq_true rfl⟩) (h_preV hGr hr hS ec8 (by decide) (q := (RX2, TX2, 11)) rfl _) rfl rfl hl.1 rfl (lv_room (Nat.le_of_ble_eq_true rfl)) dX2_applied_31 ⟨(bud hc mm8 hmc hms).1, (bud hc mm8 hmc hms).2⟩) hS (fun rr uu H locs hw hr hS => ?_)
        obtain rfl : u8 = uu := (congrArg Prod.snd hw).symm
        obtain rfl : r8 = rr := (congrArg Prod.fst hw).symm
        refine lv_aload_n hx hb dX2_applied_34 rfl (lv_at hl 0 rfl) ?_
        obtain ⟨fs9, x9_, e9, f9, hF⟩ := gQ_s hF
        refine h_get (C := RX2) (T := TX2) (N := 11) hx hb hts in_X2 hown hGr hr e9 (by decide) rfl 0 (by decide) (hts _ q562) (fun _ h9 => h9) f9 dX2_applied_35 ?_
        refine lv_iconst (v := 0) hx hb dX2_applied_38 (by decide) ?_
        refine lv_aload_n hx hb dX2_applied_39 rfl (lv_at hl 1 rfl) ?_
        refine lv_iload hx hb dX2_applied_40 (lv_at hl 4 rfl) ?_
        obtain ⟨n10, f10, e10, g10, hF⟩ := aI_s hF
        obtain ⟨x10_, ex10⟩ : ∃ z, z = f10 (x4).toNatClampNeg := ⟨_, rfl⟩
        rw [← ex10] at hF
        refine h_iald hx hb hGr hr 0 rfl e10 g10 dX2_applied_42 ?_
        rw [← ex10]
        obtain ⟨fc11, ec11, hF⟩ := gC_s hF
        obtain ⟨r11, u11, e11, hF⟩ := bnd_s hF
        have mm11 : hle u11 out.2 := (show Mo u11 _ from mo_gC (mo_bnd (moX3_without n u11 x7_ r8 r11 b2) hle_rf (fun r12 u12 m12 => mo_tr m12 (ml1 u12 b0 b1 b2 r12 (x4 + (-1)))))) _ hF
        obtain ⟨mc11, ms11, hmc11, hms11⟩ := up_of (moX3_less u8 x9_ (0 : Int32) x10_ _ e11)
        replace hc := cst_call hc hmc11 hms11
        refine h_calli (va_runV (As := [.int 0, .int x10_]) (rest := [.ref r8, .ref x7_]) ⟨hx, hb, hml, hown, hts⟩ (mgX3_less l D A u8 x9_ (0 : Int32) x10_ _ e11 mc11 ms11 hmc11 hms11) (cwV 2 hts (lw_V q1183 q1184 q1185 q103 q1186) rfl rfl rfl (by decide +kernel) ⟨Nat.le_of_ble_eq_true rfl, Nat.le_of_ble_eq_true rfl⟩) (h_preV hGr hr hS ec11 (by decide) (q := (RX3, TX3, 2)) rfl _) rfl rfl hl.1 rfl (lv_room (Nat.le_of_ble_eq_true rfl)) dX2_applied_43 ⟨(bud hc mm11 hmc hms).1, (bud hc mm11 hmc hms).2⟩) hS (fun rr uu H locs hw hr hS => ?_)
        obtain rfl : u11 = uu := (congrArg Prod.snd hw).symm
        obtain rfl : r11 = rr := (congrArg Prod.fst hw).symm
        refine lv_aload_n hx hb dX2_applied_46 rfl (lv_at hl 2 rfl) ?_
        obtain ⟨fc12, ec12, hF⟩ := gC_s hF
        obtain ⟨r12, u12, e12, hF⟩ := bnd_s hF
        have mm12 : hle u12 out.2 := (show Mo u12 _ from mo_tr hle_rf (ml1 u12 b0 b1 b2 r12 (x4 + (-1)))) _ hF
        obtain ⟨mc12, ms12, hmc12, hms12⟩ := up_of (moX3_without n u11 x7_ r8 r11 b2 _ e12)
        replace hc := cst_call hc hmc12 hms12
        refine h_callr (va_runV (As := [.ref r8, .int r11, .ref b2]) (rest := []) ⟨hx, hb, hml, hown, hts⟩ (mgX3_without l D A u11 n x7_ r8 r11 b2 _ e12 mc12 ms12 hmc12 hms12) (cwV 3 hts (lw_V q1033 q1034 q1035 q103 q1036) rfl rfl rfl (by decide +kernel) ⟨Nat.le_of_ble_eq_true rfl, Nat.le_of_ble_eq_true rfl⟩) (h_preV hGr hr hS ec12 (by decide) (q := (RX3, TX3, 2)) rfl _) rfl rfl hl.1 rfl (lv_room (Nat.le_of_ble_eq_true rfl)) dX2_applied_47 ⟨(bud hc mm12 hmc hms).1, (bud hc mm12 hmc hms).2⟩) hS (fun rr uu H locs hw hr hS => ?_)
        obtain rfl : u12 = uu := (congrArg Prod.snd hw).symm
        obtain rfl : r12 = rr := (congrArg Prod.fst hw).symm
        refine lv_astore_n (lv' := [(3, .ref r12), (0, .ref b0), (1, .ref b1), (2, .ref b2), (4, .int x4)]) hx hb dX2_applied_50 rfl hl (by decide) rfl (fun ls hl => ?_)
        refine lv_iinc (v := (x4 + (-1))) (lv' := [(4, .int (x4 + (-1))), (3, .ref r12), (0, .ref b0), (1, .ref b1), (2, .ref b2)]) hx hb dX2_applied_51 hl (k := 4) rfl rfl (by decide) rfl (fun ls hl => ?_)
        refine lv_goto (tgt := 20) hx hb dX2_applied_54 (by decide) ?_
        exact lp1 u12 b0 b1 b2 r12 (x4 + (-1)) hF _ _ _ _ hc hr hS ls (lv_sub hl [2, 3, 4, 1, 0] rfl)
  have lp1 := loop n
  have ml1 := moX2_applied_r n
  have hc : cst h0 0 0 h := by rw [eh0]; exact cst_0
  unfold GX2_applied GX2_applied_0 at hF
  obtain ⟨a1_, h1, ea1, eh1, hF⟩ := nW_s hF
  have mm1 : hle h1 out.2 := (show Mo h1 _ from mo_gI (fun x2_ => mo_nA hle_rf (fun a3_ h3 m3 => mo_bnd (moX4_init h3 a1_ a3_) m3 (fun r4 u4 m4 => mo_aL (fun x5_ => mo_tr m4 (ml1 u4 a0 a1 a2 a1_ (x5_ - 1))))))) _ hF
  replace hc := cst_new hc eh1
  refine h_new (C := RX4) (T := TX4) (N := 1) hx hb hts in_X4 tyX4 tyX4_ok hown (hts _ q549) (hts _ q550) (hts _ q123) hGr hr hS (ci := 4) (by decide) rfl (fs := [.null]) (fun j hj => by match j, hj with | 0, _ => rfl | j + 1, hj => omega) (bud hc mm1 hmc hms).1 (bud hc mm1 hmc hms).2 dX2_applied_0 (fun H hr hS => ?_)
  rw [← eh1] at hr
  rw [← ea1]
  refine lv_dup hx hb dX2_applied_3 rfl ?_
  refine lv_aload_n hx hb dX2_applied_4 rfl (lv_at hl 0 rfl) ?_
  obtain ⟨fs2, x2_, e2, f2, hF⟩ := gI_s hF
  refine h_get (C := RX2) (T := TX2) (N := 11) hx hb hts in_X2 hown hGr hr e2 (by decide) rfl 1 (by decide) (hts _ q565) (fun _ h9 => h9) f2 dX2_applied_5 ?_
  obtain ⟨a3_, h3, ea3, eh3, g3, hF⟩ := nA_s hF
  have mm3 : hle h3 out.2 := (show Mo h3 _ from mo_bnd (moX4_init h3 a1_ a3_) hle_rf (fun r4 u4 m4 => mo_aL (fun x5_ => mo_tr m4 (ml1 u4 a0 a1 a2 a1_ (x5_ - 1))))) _ hF
  replace hc := cst_new hc eh3
  refine h_newI hx hb (hts _ q177) hGr hr hS g3 (bud hc mm3 hmc hms).1 (bud hc mm3 hmc hms).2 dX2_applied_8 (fun H hr hS => ?_)
  rw [← eh3] at hr
  rw [← ea3]
  obtain ⟨r4, u4, e4, hF⟩ := bnd_s hF
  have mm4 : hle u4 out.2 := (show Mo u4 _ from mo_aL (fun x5_ => mo_tr hle_rf (ml1 u4 a0 a1 a2 a1_ (x5_ - 1)))) _ hF
  obtain ⟨mc4, ms4, hmc4, hms4⟩ := up_of (moX4_init h3 a1_ a3_ _ e4)
  replace hc := cst_call hc hmc4 hms4
  refine h_callv (va_runI (As := [.ref a3_]) (rest := [.ref a1_]) ⟨hx, hb, hml, hown, hts⟩ (mgX4_init l D A h3 a1_ a3_ _ e4 mc4 ms4 hmc4 hms4) (cwI 1 hts (lw_meth q553) rfl rfl rfl (hts _ q123) (hts _ q551) (hts _ q552) rfl (by decide +kernel) ⟨Nat.le_of_ble_eq_true rfl, Nat.le_of_ble_eq_true rfl⟩) (h_preS hGr hr hS _) rfl rfl hl.1 rfl (lv_room (Nat.le_of_ble_eq_true rfl)) dX2_applied_10 ⟨(bud hc mm4 hmc hms).1, (bud hc mm4 hmc hms).2⟩) hS (fun uu H locs hw hr hS => ?_)
  obtain rfl : u4 = uu := (congrArg Prod.snd hw).symm
  refine lv_astore_n (lv' := [(3, .ref a1_), (0, .ref a0), (1, .ref a1), (2, .ref a2)]) hx hb dX2_applied_13 rfl hl (by decide) rfl (fun ls hl => ?_)
  refine lv_aload_n hx hb dX2_applied_14 rfl (lv_at hl 2 rfl) ?_
  obtain ⟨k5, y5, e5, g5, hF⟩ := aL_s hF
  obtain ⟨x5_, ex5⟩ : ∃ z, z = Int32.ofNat y5.1 := ⟨_, rfl⟩
  rw [← ex5] at hF
  refine h_alen hx hb hGr hr e5 g5 dX2_applied_15 ?_
  rw [← ex5]
  refine lv_iconst (v := 1) hx hb dX2_applied_16 (by decide) ?_
  refine lv_isub hx hb dX2_applied_17 ?_
  refine lv_istore (lv' := [(4, .int (x5_ - 1)), (3, .ref a1_), (0, .ref a0), (1, .ref a1), (2, .ref a2)]) hx hb dX2_applied_18 hl (by decide) rfl (fun ls hl => ?_)
  exact lp1 u4 a0 a1 a2 a1_ (x5_ - 1) hF _ _ _ _ hc hr hS ls (lv_sub hl [2, 3, 4, 1, 0] rfl)

def GX2_rank_1 (R : Nat → Hp → Nat → Nat → Int32 → Option (Int32 × Hp)) (n : Nat) (h : Hp) (b0 : Nat) (b1 : Nat) (x2 : Int32) : Option (Int32 × Hp) := aL h b1 (fun x5_ => if x5_ ≤ x2 then nW h 9 [.null, .null, .int 0, .int 0] 4 (fun a7_ h7 => gQ h7 b0 2 0 (fun x8_ => bnd (GX10_init n h7 a7_ x8_ b1) (fun r9 u9 => gI u9 a7_ 9 2 (fun x10_ => some (x10_, u9))))) else gC h b0 2 (bnd (GX2_vector h b0 x2) (fun r11 u11 => gQ u11 r11 4 0 (fun x12_ => aQ u11 b1 4 x2 (fun x13_ => gI u11 b0 2 1 (fun x14_ => cI u11 0 x12_ (0 : Int32) x13_ (0 : Int32) x14_ (fun h15 => R 1 h15 b0 b1 (x2 + 1))))))))
def GX2_rank_r : Nat → Nat → Hp → Nat → Nat → Int32 → Option (Int32 × Hp)
  | 0 => fun _ _ _ _ _ => none
  | n + 1 => fun k => match k with  | _ => GX2_rank_1 (GX2_rank_r n) n
def GX2_rank_0 (R : Nat → Hp → Nat → Nat → Int32 → Option (Int32 × Hp)) (n : Nat) (h : Hp) (a0 : Nat) : Option (Int32 × Hp) := gQ h a0 2 7 (fun x1_ => gC h x1_ 10 (bnd (GJ2_size h x1_) (fun r2 u2 => gI u2 a0 2 1 (fun x3_ => nM u2 r2 x3_ (fun a4_ h4 => R 1 h4 a0 a4_ (0 : Int32))))))
def GX2_rank (n : Nat) (h : Hp) (a0 : Nat) : Option (Int32 × Hp) := GX2_rank_0 (GX2_rank_r n) n h a0
theorem moX2_rank_r (n : Nat) : (∀ (h : Hp) (b0 : Nat) (b1 : Nat) (x2 : Int32), Mo h (GX2_rank_r n 1 h b0 b1 x2)) := by
  induction n with
  | zero => exact (fun _ _ _ _ => mo_no)
  | succ n ih =>
    have ml1 := ih
    exact (fun h b0 b1 x2 => show Mo h (GX2_rank_1 (GX2_rank_r n) n h b0 b1 x2) from by unfold GX2_rank_1; exact mo_aL (fun x5_ => mo_ite (mo_nW hle_rf (fun a7_ h7 m7 => mo_gQ (fun x8_ => mo_bnd (moX10_init n h7 a7_ x8_ b1) m7 (fun r9 u9 m9 => mo_gI (fun x10_ => mo_ret m9))))) (mo_gC (mo_bnd (moX2_vector h b0 x2) hle_rf (fun r11 u11 m11 => mo_gQ (fun x12_ => mo_aQ (fun x13_ => mo_gI (fun x14_ => mo_cI m11 (fun h15 m15 => mo_tr m15 (ml1 h15 b0 b1 (x2 + 1)))))))))))
theorem moX2_rank (n : Nat) (h : Hp) (a0 : Nat) : Mo h (GX2_rank n h a0) := by
  have ml1 := moX2_rank_r n
  unfold GX2_rank GX2_rank_0
  exact mo_gQ (fun x1_ => mo_gC (mo_bnd (moJ2_size h x1_) hle_rf (fun r2 u2 m2 => mo_gI (fun x3_ => mo_nM m2 (fun a4_ h4 m4 => mo_tr m4 (ml1 h4 a0 a4_ (0 : Int32)))))))
set_option maxHeartbeats 4000000 in
set_option maxRecDepth 100000 in
theorem mgX2_rank (l : Launch) (D : HD) (A : Nat → Prop) (h : Hp) (n : Nat) (a0 : Nat) (out : Int32 × Hp) (hF : GX2_rank n h a0 = some out) (mc ms : Nat) (hmc : hCc out.2 = hCc h + mc) (hms : hSl out.2 = hSl h + ms) : Met l yX2_rank (ws_ yX2_rank cX2_rank 3 (some .int)) ({ frames := 5, cells := mc, slots := ms, locals := 118 }) (va_Pc [.ref a0] (hW D A h)) (va_Qi (fun r u => (r, u) = out) (hW D A) A) mc ms A := by
  refine Met.ofW (cc := cX2_rank) (maxL := 3) (ret := (some .int)) (by decide +kernel) rfl ?_
  intro p e s m args below meth c s₁ B hml hv
  obtain ⟨rfl, hr, hGr⟩ := hv
  have hx := B.exec
  have hb := B.bytes
  have hret := B.returns
  have hts := atoms_spec (ws := (ws_ yX2_rank cX2_rank 3 (some .int))) B.pre
  have hts : ∀ w ∈ lw_all, w.before _ s = true := fun w h => hts w (List.mem_cons_of_mem _ h)
  have hown : s.vm.findClass RX2 = some m.cls := findClass_of_methodNamed B.named
  have hlocks := B.notSynchronized
  have hS : va_S A s.heap s.heap [] := va_S.rf
  have hc : cst h 0 0 h := cst_0
  have hl := lv_entry ([.ref a0]) (n := 3) (Nat.le_of_ble_eq_true rfl)
  rw [lg_entry_eq]
  generalize (lg_sl ([.ref a0]) ++ List.replicate (3 - (lg_sl ([.ref a0])).length) Slot.unset).toArray = ls at hl ⊢
  have hl : lv_has ls 3 [(0, .ref a0)] := hl
  obtain ⟨h0, eh0⟩ : ∃ z, z = h := ⟨_, rfl⟩
  rw [← eh0] at hmc hms
  have loop : ∀ n : Nat, (∀ (h : Hp) (b0 : Nat) (b1 : Nat) (x2 : Int32), GX2_rank_r n 1 h b0 b1 x2 = some out → ∀ (H : Heap) (locs : List Loc) (cells slots : Nat), cst h0 cells slots h → hR D A h H → va_S A s.heap H locs → ∀ ls : Array Slot, lv_has ls 3 [(0, .ref b0), (1, .ref b1), (2, .int x2)] → W p l e (headSpec (ws_ yX2_rank cX2_rank 3 (some .int)) ({ frames := 5, cells := mc, slots := ms, locals := 118 })).room s m ([.ref a0] : List Value).toArray below meth c H locs cells slots (MQ below (va_Qi (fun r u => (r, u) = out) (hW D A) A) ([.ref a0] : List Value).toArray s mc ms A) (F0 m 20 ls [])) := by
    intro n
    induction n with
    | zero => exact (fun _ _ _ _ h => nomatch h)
    | succ n ih =>
      have lp1 := ih
      have ml1 := moX2_rank_r n
      intro h b0 b1 x2 hF H locs cells slots hc hr hS ls hl
      replace hF : GX2_rank_1 (GX2_rank_r n) n h b0 b1 x2 = some out := hF
      unfold GX2_rank_1 at hF
      refine lv_iload_n hx hb dX2_rank_20 rfl (lv_at hl 2 rfl) ?_
      refine lv_aload_n hx hb dX2_rank_21 rfl (lv_at hl 1 rfl) ?_
      obtain ⟨k5, y5, e5, g5, hF⟩ := aL_s hF
      obtain ⟨x5_, ex5⟩ : ∃ z, z = Int32.ofNat y5.1 := ⟨_, rfl⟩
      rw [← ex5] at hF
      refine h_alen hx hb hGr hr e5 g5 dX2_rank_22 ?_
      rw [← ex5]
      refine lv_icmp_ge (tgt := 52) hx hb dX2_rank_23 (by decide) (fun c6 => ?_) (fun c6 => ?_)
      · replace hF := it_t c6 hF
        obtain ⟨a7_, h7, ea7, eh7, hF⟩ := nW_s hF
        have mm7 : hle h7 out.2 := (show Mo h7 _ from mo_gQ (fun x8_ => mo_bnd (moX10_init n h7 a7_ x8_ b1) hle_rf (fun r9 u9 m9 => mo_gI (fun x10_ => mo_ret m9)))) _ hF
        replace hc := cst_new hc eh7
        refine h_new (C := RX10) (T := TX10) (N := 4) hx hb hts in_X10 tyX10 tyX10_ok hown (hts _ q1088) (hts _ q1089) (hts _ q141) hGr hr hS (ci := 9) (by decide) rfl (fs := [.null, .null, .int 0, .int 0]) (fun j hj => by match j, hj with | 0, _ => rfl | 1, _ => rfl | 2, _ => rfl | 3, _ => rfl | j + 4, hj => omega) (bud hc mm7 hmc hms).1 (bud hc mm7 hmc hms).2 dX2_rank_52 (fun H hr hS => ?_)
        rw [← eh7] at hr
        rw [← ea7]
        refine lv_dup hx hb dX2_rank_55 rfl ?_
        refine lv_aload_n hx hb dX2_rank_56 rfl (lv_at hl 0 rfl) ?_
        obtain ⟨fs8, x8_, e8, f8, hF⟩ := gQ_s hF
        refine h_get (C := RX2) (T := TX2) (N := 11) hx hb hts in_X2 hown hGr hr e8 (by decide) rfl 0 (by decide) (hts _ q562) (fun _ h9 => h9) f8 dX2_rank_57 ?_
        refine lv_aload_n hx hb dX2_rank_60 rfl (lv_at hl 1 rfl) ?_
        obtain ⟨r9, u9, e9, hF⟩ := bnd_s hF
        have mm9 : hle u9 out.2 := (show Mo u9 _ from mo_gI (fun x10_ => mo_ret hle_rf)) _ hF
        obtain ⟨mc9, ms9, hmc9, hms9⟩ := up_of (moX10_init n h7 a7_ x8_ b1 _ e9)
        replace hc := cst_call hc hmc9 hms9
        refine h_callv (va_runI (As := [.ref x8_, .ref b1]) (rest := [.ref a7_]) ⟨hx, hb, hml, hown, hts⟩ (mgX10_init l D A h7 n a7_ x8_ b1 _ e9 mc9 ms9 hmc9 hms9) (cwI 2 hts (lw_meth q1092) rfl rfl rfl (hts _ q141) (hts _ q1090) (hts _ q1091) rfl (by decide +kernel) ⟨Nat.le_of_ble_eq_true rfl, Nat.le_of_ble_eq_true rfl⟩) (h_preS hGr hr hS _) rfl rfl hl.1 rfl (lv_room (Nat.le_of_ble_eq_true rfl)) dX2_rank_61 ⟨(bud hc mm9 hmc hms).1, (bud hc mm9 hmc hms).2⟩) hS (fun uu H locs hw hr hS => ?_)
        obtain rfl : u9 = uu := (congrArg Prod.snd hw).symm
        obtain ⟨fs10, x10_, e10, f10, hF⟩ := gI_s hF
        refine h_getN (C := RX10) (T := TX10) (N := 4) hx hb hts in_X10 hown hGr hr e10 (by decide) rfl 2 (by decide) (va_Nw.use rfl (hGr.nw q1113 rfl)) (fun _ h9 => h9) f10 dX2_rank_64 ?_
        have bz := bud_r hc hF hmc hms
        refine W.widen (k := mc) (n := ms) bz.1 bz.2 ?_
        exact W.iret (v := x10_) hx hb hret (fun t ht hWm => ⟨⟨x10_, u9, rfl, Option.some.inj hF, h_end hGr hr hS ht hWm⟩, hS.F ht⟩) hS.2.2 dX2_rank_67
      · replace hF := it_f c6 hF
        refine lv_aload_n hx hb dX2_rank_26 rfl (lv_at hl 0 rfl) ?_
        refine lv_iload_n hx hb dX2_rank_27 rfl (lv_at hl 2 rfl) ?_
        obtain ⟨fc11, ec11, hF⟩ := gC_s hF
        obtain ⟨r11, u11, e11, hF⟩ := bnd_s hF
        have mm11 : hle u11 out.2 := (show Mo u11 _ from mo_gQ (fun x12_ => mo_aQ (fun x13_ => mo_gI (fun x14_ => mo_cI hle_rf (fun h15 m15 => mo_tr m15 (ml1 h15 b0 b1 (x2 + 1))))))) _ hF
        obtain ⟨mc11, ms11, hmc11, hms11⟩ := up_of (moX2_vector h b0 x2 _ e11)
        replace hc := cst_call hc hmc11 hms11
        refine h_callr (va_runV (As := [.int x2]) (rest := []) ⟨hx, hb, hml, hown, hts⟩ (mgX2_vector l D A h b0 x2 _ e11 mc11 ms11 hmc11 hms11) (cwV 1 hts (lw_V q1013 q1014 q1015 q102 q1016) rfl rfl rfl (by decide +kernel) ⟨Nat.le_of_ble_eq_true rfl, Nat.le_of_ble_eq_true rfl⟩) (h_preV hGr hr hS ec11 (by decide) (q := (RX2, TX2, 11)) rfl _) rfl rfl hl.1 rfl (lv_room (Nat.le_of_ble_eq_true rfl)) dX2_rank_28 ⟨(bud hc mm11 hmc hms).1, (bud hc mm11 hmc hms).2⟩) hS (fun rr uu H locs hw hr hS => ?_)
        obtain rfl : u11 = uu := (congrArg Prod.snd hw).symm
        obtain rfl : r11 = rr := (congrArg Prod.fst hw).symm
        obtain ⟨fs12, x12_, e12, f12, hF⟩ := gQ_s hF
        refine h_getN (C := RX4) (T := TX4) (N := 1) hx hb hts in_X4 hown hGr hr e12 (by decide) rfl 0 (by decide) (va_Nw.use rfl (hGr.nw q558 rfl)) (fun _ h9 => h9) f12 dX2_rank_31 ?_
        refine lv_iconst (v := 0) hx hb dX2_rank_34 (by decide) ?_
        refine lv_aload_n hx hb dX2_rank_35 rfl (lv_at hl 1 rfl) ?_
        refine lv_iload_n hx hb dX2_rank_36 rfl (lv_at hl 2 rfl) ?_
        obtain ⟨n13, f13, x13_, e13, g13, ex13, hF⟩ := aQ_s hF
        refine h_aald hx hb hGr hr (by decide) e13 g13 dX2_rank_37 (v := .ref x13_) (by rw [ex13]; rfl) ?_
        refine lv_iconst (v := 0) hx hb dX2_rank_38 (by decide) ?_
        refine lv_aload_n hx hb dX2_rank_39 rfl (lv_at hl 0 rfl) ?_
        obtain ⟨fs14, x14_, e14, f14, hF⟩ := gI_s hF
        refine h_get (C := RX2) (T := TX2) (N := 11) hx hb hts in_X2 hown hGr hr e14 (by decide) rfl 1 (by decide) (hts _ q565) (fun _ h9 => h9) f14 dX2_rank_40 ?_
        obtain ⟨n15, f15, nn15, g15, ea15, e15, lo15, cp15, ft15, hF⟩ := cI_s hF
        obtain ⟨h15, eh15⟩ : ∃ z, z = hPut u11 x13_ (.inl (0, nn15, .inl (va_cpy f15 g15 ((0 : Int32)).toNatClampNeg ((0 : Int32)).toNatClampNeg (x14_).toNatClampNeg))) := ⟨_, rfl⟩
        rw [← eh15] at hF
        refine h_copyi hx hb (by rw [hml]; exact hl.1.symm) hown (hts _ q1087) (hts _ q340) (hts _ q339) (hts _ q118) hGr hr hS 0 (by decide) ea15 e15 lo15 cp15 ft15 (Nat.le_of_ble_eq_true rfl) (Nat.le_of_ble_eq_true rfl) dX2_rank_43 (fun H locs hr hS => ?_)
        rw [← eh15] at hr
        replace hc := cst_put hc eh15
        refine lv_iinc (v := (x2 + 1)) (lv' := [(2, .int (x2 + 1)), (0, .ref b0), (1, .ref b1)]) hx hb dX2_rank_46 hl (k := 2) rfl rfl (by decide) rfl (fun ls hl => ?_)
        refine lv_goto (tgt := 20) hx hb dX2_rank_49 (by decide) ?_
        exact lp1 h15 b0 b1 (x2 + 1) hF _ _ _ _ hc hr hS ls (lv_sub hl [1, 2, 0] rfl)
  have lp1 := loop n
  have ml1 := moX2_rank_r n
  have hc : cst h0 0 0 h := by rw [eh0]; exact cst_0
  unfold GX2_rank GX2_rank_0 at hF
  refine lv_aload_n hx hb dX2_rank_0 rfl (lv_at hl 0 rfl) ?_
  obtain ⟨fs1, x1_, e1, f1, hF⟩ := gQ_s hF
  refine h_get (C := RX2) (T := TX2) (N := 11) hx hb hts in_X2 hown hGr hr e1 (by decide) rfl 7 (by decide) (hts _ q582) (fun _ h9 => h9) f1 dX2_rank_1 ?_
  obtain ⟨fc2, ec2, hF⟩ := gC_s hF
  obtain ⟨r2, u2, e2, hF⟩ := bnd_s hF
  have mm2 : hle u2 out.2 := (show Mo u2 _ from mo_gI (fun x3_ => mo_nM hle_rf (fun a4_ h4 m4 => mo_tr m4 (ml1 h4 a0 a4_ (0 : Int32))))) _ hF
  obtain ⟨mc2, ms2, hmc2, hms2⟩ := up_of (moJ2_size h x1_ _ e2)
  replace hc := cst_call hc hmc2 hms2
  refine h_callFi (va_runF (hGr.K.1 10 _ rfl).2 (As := []) (rest := []) ⟨hx, hb, hml, hown, hts⟩ (mgJ2_size l D A h x1_ _ e2 mc2 ms2 hmc2 hms2) (va_cwF 0 hts (lw_app (lw_fi q872 q875 q877 q106) (lw_meth q879)) rfl rfl rfl (fw_5 hGr) (by decide +kernel) ⟨Nat.le_of_ble_eq_true rfl, Nat.le_of_ble_eq_true rfl⟩) (h_preV hGr hr hS ec2 (by decide) (q := (RJ2, TJ2, 3)) rfl _) rfl rfl hl.1 rfl (lv_room (Nat.le_of_ble_eq_true rfl)) dX2_rank_4 ⟨(bud hc mm2 hmc hms).1, (bud hc mm2 hmc hms).2⟩) hS (fun rr uu H locs hw hr hS => ?_)
  obtain rfl : u2 = uu := (congrArg Prod.snd hw).symm
  obtain rfl : r2 = rr := (congrArg Prod.fst hw).symm
  refine lv_aload_n hx hb dX2_rank_9 rfl (lv_at hl 0 rfl) ?_
  obtain ⟨fs3, x3_, e3, f3, hF⟩ := gI_s hF
  refine h_get (C := RX2) (T := TX2) (N := 11) hx hb hts in_X2 hown hGr hr e3 (by decide) rfl 1 (by decide) (hts _ q565) (fun _ h9 => h9) f3 dX2_rank_10 ?_
  obtain ⟨a4_, h4, ea4, eh4, g4, gk4, hF⟩ := nM_s hF
  have mm4 : hle h4 out.2 := (show Mo h4 _ from mo_tr hle_rf (ml1 h4 a0 a4_ (0 : Int32))) _ hF
  replace hc := cst_mul hc eh4
  refine h_multi hx hb hown (hts _ q547) (hts _ q177) hGr hr hS g4 gk4 (bud_m hc mm4 hmc hms).1 (bud_m hc mm4 hmc hms).2 dX2_rank_13 (fun H hr hS => ?_)
  rw [← eh4] at hr
  rw [← ea4]
  refine lv_astore_n (lv' := [(1, .ref a4_), (0, .ref a0)]) hx hb dX2_rank_17 rfl hl (by decide) rfl (fun ls hl => ?_)
  refine lv_iconst (v := 0) hx hb dX2_rank_18 (by decide) ?_
  refine lv_istore_n (lv' := [(2, .int 0), (1, .ref a4_), (0, .ref a0)]) hx hb dX2_rank_19 rfl hl (by decide) rfl (fun ls hl => ?_)
  exact lp1 h4 a0 a4_ (0 : Int32) hF _ _ _ _ hc hr hS ls (lv_sub hl [2, 1, 0] rfl)

def GX2_reach_1 (R : Nat → Hp → Nat → Nat → Nat → Nat → Int32 → Option (Int32 × Hp)) (n : Nat) (h : Hp) (b0 : Nat) (b1 : Nat) (b2 : Nat) (b3 : Nat) (x4 : Int32) : Option (Int32 × Hp) := gI h b0 2 1 (fun x4_ => if x4_ ≤ x4 then nW h 9 [.null, .null, .int 0, .int 0] 4 (fun a6_ h6 => gQ h6 b0 2 0 (fun x7_ => bnd (GX10_init n h6 a6_ x7_ b2) (fun r8 u8 => gI u8 a6_ 9 2 (fun x9_ => some (x9_, u8))))) else gQ h b3 4 0 (fun x10_ => aQ h b2 4 x4 (fun x11_ => gI h b0 2 1 (fun x12_ => cI h 0 x10_ (0 : Int32) x11_ (0 : Int32) x12_ (fun h13 => gC h13 b0 2 (bnd (GX2_times n h13 b0 b3) (fun r14 u14 => R 1 u14 b0 b1 b2 r14 (x4 + 1))))))))
def GX2_reach_r : Nat → Nat → Hp → Nat → Nat → Nat → Nat → Int32 → Option (Int32 × Hp)
  | 0 => fun _ _ _ _ _ _ _ => none
  | n + 1 => fun k => match k with  | _ => GX2_reach_1 (GX2_reach_r n) n
def GX2_reach_0 (R : Nat → Hp → Nat → Nat → Nat → Nat → Int32 → Option (Int32 × Hp)) (n : Nat) (h : Hp) (a0 : Nat) (a1 : Nat) : Option (Int32 × Hp) := gI h a0 2 1 (fun x1_ => gI h a0 2 1 (fun x2_ => nM h x1_ x2_ (fun a3_ h3 => R 1 h3 a0 a1 a3_ a1 (0 : Int32))))
def GX2_reach (n : Nat) (h : Hp) (a0 : Nat) (a1 : Nat) : Option (Int32 × Hp) := GX2_reach_0 (GX2_reach_r n) n h a0 a1
theorem moX2_reach_r (n : Nat) : (∀ (h : Hp) (b0 : Nat) (b1 : Nat) (b2 : Nat) (b3 : Nat) (x4 : Int32), Mo h (GX2_reach_r n 1 h b0 b1 b2 b3 x4)) := by
  induction n with
  | zero => exact (fun _ _ _ _ _ _ => mo_no)
  | succ n ih =>
    have ml1 := ih
    exact (fun h b0 b1 b2 b3 x4 => show Mo h (GX2_reach_1 (GX2_reach_r n) n h b0 b1 b2 b3 x4) from by unfold GX2_reach_1; exact mo_gI (fun x4_ => mo_ite (mo_nW hle_rf (fun a6_ h6 m6 => mo_gQ (fun x7_ => mo_bnd (moX10_init n h6 a6_ x7_ b2) m6 (fun r8 u8 m8 => mo_gI (fun x9_ => mo_ret m8))))) (mo_gQ (fun x10_ => mo_aQ (fun x11_ => mo_gI (fun x12_ => mo_cI hle_rf (fun h13 m13 => mo_gC (mo_bnd (moX2_times n h13 b0 b3) m13 (fun r14 u14 m14 => mo_tr m14 (ml1 u14 b0 b1 b2 r14 (x4 + 1)))))))))))
theorem moX2_reach (n : Nat) (h : Hp) (a0 : Nat) (a1 : Nat) : Mo h (GX2_reach n h a0 a1) := by
  have ml1 := moX2_reach_r n
  unfold GX2_reach GX2_reach_0
  exact mo_gI (fun x1_ => mo_gI (fun x2_ => mo_nM hle_rf (fun a3_ h3 m3 => mo_tr m3 (ml1 h3 a0 a1 a3_ a1 (0 : Int32)))))
set_option maxHeartbeats 4000000 in
set_option maxRecDepth 100000 in
theorem mgX2_reach (l : Launch) (D : HD) (A : Nat → Prop) (h : Hp) (n : Nat) (a0 : Nat) (a1 : Nat) (out : Int32 × Hp) (hF : GX2_reach n h a0 a1 = some out) (mc ms : Nat) (hmc : hCc out.2 = hCc h + mc) (hms : hSl out.2 = hSl h + ms) : Met l yX2_reach (ws_ yX2_reach cX2_reach 5 (some .int)) ({ frames := 5, cells := mc, slots := ms, locals := 118 }) (va_Pc [.ref a0, .ref a1] (hW D A h)) (va_Qi (fun r u => (r, u) = out) (hW D A) A) mc ms A := by
  refine Met.ofW (cc := cX2_reach) (maxL := 5) (ret := (some .int)) (by decide +kernel) rfl ?_
  intro p e s m args below meth c s₁ B hml hv
  obtain ⟨rfl, hr, hGr⟩ := hv
  have hx := B.exec
  have hb := B.bytes
  have hret := B.returns
  have hts := atoms_spec (ws := (ws_ yX2_reach cX2_reach 5 (some .int))) B.pre
  have hts : ∀ w ∈ lw_all, w.before _ s = true := fun w h => hts w (List.mem_cons_of_mem _ h)
  have hown : s.vm.findClass RX2 = some m.cls := findClass_of_methodNamed B.named
  have hlocks := B.notSynchronized
  have hS : va_S A s.heap s.heap [] := va_S.rf
  have hc : cst h 0 0 h := cst_0
  have hl := lv_entry ([.ref a0, .ref a1]) (n := 5) (Nat.le_of_ble_eq_true rfl)
  rw [lg_entry_eq]
  generalize (lg_sl ([.ref a0, .ref a1]) ++ List.replicate (5 - (lg_sl ([.ref a0, .ref a1])).length) Slot.unset).toArray = ls at hl ⊢
  have hl : lv_has ls 5 [(0, .ref a0), (1, .ref a1)] := hl
  obtain ⟨h0, eh0⟩ : ∃ z, z = h := ⟨_, rfl⟩
  rw [← eh0] at hmc hms
  have loop : ∀ n : Nat, (∀ (h : Hp) (b0 : Nat) (b1 : Nat) (b2 : Nat) (b3 : Nat) (x4 : Int32), GX2_reach_r n 1 h b0 b1 b2 b3 x4 = some out → ∀ (H : Heap) (locs : List Loc) (cells slots : Nat), cst h0 cells slots h → hR D A h H → va_S A s.heap H locs → ∀ ls : Array Slot, lv_has ls 5 [(0, .ref b0), (1, .ref b1), (2, .ref b2), (3, .ref b3), (4, .int x4)] → W p l e (headSpec (ws_ yX2_reach cX2_reach 5 (some .int)) ({ frames := 5, cells := mc, slots := ms, locals := 118 })).room s m ([.ref a0, .ref a1] : List Value).toArray below meth c H locs cells slots (MQ below (va_Qi (fun r u => (r, u) = out) (hW D A) A) ([.ref a0, .ref a1] : List Value).toArray s mc ms A) (F0 m 18 ls [])) := by
    intro n
    induction n with
    | zero => exact (fun _ _ _ _ _ _ h => nomatch h)
    | succ n ih =>
      have lp1 := ih
      have ml1 := moX2_reach_r n
      intro h b0 b1 b2 b3 x4 hF H locs cells slots hc hr hS ls hl
      replace hF : GX2_reach_1 (GX2_reach_r n) n h b0 b1 b2 b3 x4 = some out := hF
      unfold GX2_reach_1 at hF
      refine lv_iload hx hb dX2_reach_18 (lv_at hl 4 rfl) ?_
      refine lv_aload_n hx hb dX2_reach_20 rfl (lv_at hl 0 rfl) ?_
      obtain ⟨fs4, x4_, e4, f4, hF⟩ := gI_s hF
      refine h_get (C := RX2) (T := TX2) (N := 11) hx hb hts in_X2 hown hGr hr e4 (by decide) rfl 1 (by decide) (hts _ q565) (fun _ h9 => h9) f4 dX2_reach_21 ?_
      refine lv_icmp_ge (tgt := 56) hx hb dX2_reach_24 (by decide) (fun c5 => ?_) (fun c5 => ?_)
      · replace hF := it_t c5 hF
        obtain ⟨a6_, h6, ea6, eh6, hF⟩ := nW_s hF
        have mm6 : hle h6 out.2 := (show Mo h6 _ from mo_gQ (fun x7_ => mo_bnd (moX10_init n h6 a6_ x7_ b2) hle_rf (fun r8 u8 m8 => mo_gI (fun x9_ => mo_ret m8)))) _ hF
        replace hc := cst_new hc eh6
        refine h_new (C := RX10) (T := TX10) (N := 4) hx hb hts in_X10 tyX10 tyX10_ok hown (hts _ q1088) (hts _ q1089) (hts _ q141) hGr hr hS (ci := 9) (by decide) rfl (fs := [.null, .null, .int 0, .int 0]) (fun j hj => by match j, hj with | 0, _ => rfl | 1, _ => rfl | 2, _ => rfl | 3, _ => rfl | j + 4, hj => omega) (bud hc mm6 hmc hms).1 (bud hc mm6 hmc hms).2 dX2_reach_56 (fun H hr hS => ?_)
        rw [← eh6] at hr
        rw [← ea6]
        refine lv_dup hx hb dX2_reach_59 rfl ?_
        refine lv_aload_n hx hb dX2_reach_60 rfl (lv_at hl 0 rfl) ?_
        obtain ⟨fs7, x7_, e7, f7, hF⟩ := gQ_s hF
        refine h_get (C := RX2) (T := TX2) (N := 11) hx hb hts in_X2 hown hGr hr e7 (by decide) rfl 0 (by decide) (hts _ q562) (fun _ h9 => h9) f7 dX2_reach_61 ?_
        refine lv_aload_n hx hb dX2_reach_64 rfl (lv_at hl 2 rfl) ?_
        obtain ⟨r8, u8, e8, hF⟩ := bnd_s hF
        have mm8 : hle u8 out.2 := (show Mo u8 _ from mo_gI (fun x9_ => mo_ret hle_rf)) _ hF
        obtain ⟨mc8, ms8, hmc8, hms8⟩ := up_of (moX10_init n h6 a6_ x7_ b2 _ e8)
        replace hc := cst_call hc hmc8 hms8
        refine h_callv (va_runI (As := [.ref x7_, .ref b2]) (rest := [.ref a6_]) ⟨hx, hb, hml, hown, hts⟩ (mgX10_init l D A h6 n a6_ x7_ b2 _ e8 mc8 ms8 hmc8 hms8) (cwI 2 hts (lw_meth q1092) rfl rfl rfl (hts _ q141) (hts _ q1090) (hts _ q1091) rfl (by decide +kernel) ⟨Nat.le_of_ble_eq_true rfl, Nat.le_of_ble_eq_true rfl⟩) (h_preS hGr hr hS _) rfl rfl hl.1 rfl (lv_room (Nat.le_of_ble_eq_true rfl)) dX2_reach_65 ⟨(bud hc mm8 hmc hms).1, (bud hc mm8 hmc hms).2⟩) hS (fun uu H locs hw hr hS => ?_)
        obtain rfl : u8 = uu := (congrArg Prod.snd hw).symm
        obtain ⟨fs9, x9_, e9, f9, hF⟩ := gI_s hF
        refine h_getN (C := RX10) (T := TX10) (N := 4) hx hb hts in_X10 hown hGr hr e9 (by decide) rfl 2 (by decide) (va_Nw.use rfl (hGr.nw q1113 rfl)) (fun _ h9 => h9) f9 dX2_reach_68 ?_
        have bz := bud_r hc hF hmc hms
        refine W.widen (k := mc) (n := ms) bz.1 bz.2 ?_
        exact W.iret (v := x9_) hx hb hret (fun t ht hWm => ⟨⟨x9_, u8, rfl, Option.some.inj hF, h_end hGr hr hS ht hWm⟩, hS.F ht⟩) hS.2.2 dX2_reach_71
      · replace hF := it_f c5 hF
        refine lv_aload_n hx hb dX2_reach_27 rfl (lv_at hl 3 rfl) ?_
        obtain ⟨fs10, x10_, e10, f10, hF⟩ := gQ_s hF
        refine h_getN (C := RX4) (T := TX4) (N := 1) hx hb hts in_X4 hown hGr hr e10 (by decide) rfl 0 (by decide) (va_Nw.use rfl (hGr.nw q558 rfl)) (fun _ h9 => h9) f10 dX2_reach_28 ?_
        refine lv_iconst (v := 0) hx hb dX2_reach_31 (by decide) ?_
        refine lv_aload_n hx hb dX2_reach_32 rfl (lv_at hl 2 rfl) ?_
        refine lv_iload hx hb dX2_reach_33 (lv_at hl 4 rfl) ?_
        obtain ⟨n11, f11, x11_, e11, g11, ex11, hF⟩ := aQ_s hF
        refine h_aald hx hb hGr hr (by decide) e11 g11 dX2_reach_35 (v := .ref x11_) (by rw [ex11]; rfl) ?_
        refine lv_iconst (v := 0) hx hb dX2_reach_36 (by decide) ?_
        refine lv_aload_n hx hb dX2_reach_37 rfl (lv_at hl 0 rfl) ?_
        obtain ⟨fs12, x12_, e12, f12, hF⟩ := gI_s hF
        refine h_get (C := RX2) (T := TX2) (N := 11) hx hb hts in_X2 hown hGr hr e12 (by decide) rfl 1 (by decide) (hts _ q565) (fun _ h9 => h9) f12 dX2_reach_38 ?_
        obtain ⟨n13, f13, nn13, g13, ea13, e13, lo13, cp13, ft13, hF⟩ := cI_s hF
        obtain ⟨h13, eh13⟩ : ∃ z, z = hPut h x11_ (.inl (0, nn13, .inl (va_cpy f13 g13 ((0 : Int32)).toNatClampNeg ((0 : Int32)).toNatClampNeg (x12_).toNatClampNeg))) := ⟨_, rfl⟩
        rw [← eh13] at hF
        refine h_copyi hx hb (by rw [hml]; exact hl.1.symm) hown (hts _ q1087) (hts _ q340) (hts _ q339) (hts _ q118) hGr hr hS 0 (by decide) ea13 e13 lo13 cp13 ft13 (Nat.le_of_ble_eq_true rfl) (Nat.le_of_ble_eq_true rfl) dX2_reach_41 (fun H locs hr hS => ?_)
        rw [← eh13] at hr
        replace hc := cst_put hc eh13
        refine lv_aload_n hx hb dX2_reach_44 rfl (lv_at hl 0 rfl) ?_
        refine lv_aload_n hx hb dX2_reach_45 rfl (lv_at hl 3 rfl) ?_
        obtain ⟨fc14, ec14, hF⟩ := gC_s hF
        obtain ⟨r14, u14, e14, hF⟩ := bnd_s hF
        have mm14 : hle u14 out.2 := (show Mo u14 _ from mo_tr hle_rf (ml1 u14 b0 b1 b2 r14 (x4 + 1))) _ hF
        obtain ⟨mc14, ms14, hmc14, hms14⟩ := up_of (moX2_times n h13 b0 b3 _ e14)
        replace hc := cst_call hc hmc14 hms14
        refine h_callr (va_runV (As := [.ref b3]) (rest := []) ⟨hx, hb, hml, hown, hts⟩ (mgX2_times l D A h13 n b0 b3 _ e14 mc14 ms14 hmc14 hms14) (cwV 1 hts (lw_V q1055 q1056 q1057 q102 q1058) rfl rfl rfl (by decide +kernel) ⟨Nat.le_of_ble_eq_true rfl, Nat.le_of_ble_eq_true rfl⟩) (h_preV hGr hr hS ec14 (by decide) (q := (RX2, TX2, 11)) rfl _) rfl rfl hl.1 rfl (lv_room (Nat.le_of_ble_eq_true rfl)) dX2_reach_46 ⟨(bud hc mm14 hmc hms).1, (bud hc mm14 hmc hms).2⟩) hS (fun rr uu H locs hw hr hS => ?_)
        obtain rfl : u14 = uu := (congrArg Prod.snd hw).symm
        obtain rfl : r14 = rr := (congrArg Prod.fst hw).symm
        refine lv_astore_n (lv' := [(3, .ref r14), (0, .ref b0), (1, .ref b1), (2, .ref b2), (4, .int x4)]) hx hb dX2_reach_49 rfl hl (by decide) rfl (fun ls hl => ?_)
        refine lv_iinc (v := (x4 + 1)) (lv' := [(4, .int (x4 + 1)), (3, .ref r14), (0, .ref b0), (1, .ref b1), (2, .ref b2)]) hx hb dX2_reach_50 hl (k := 4) rfl rfl (by decide) rfl (fun ls hl => ?_)
        refine lv_goto (tgt := 18) hx hb dX2_reach_53 (by decide) ?_
        exact lp1 u14 b0 b1 b2 r14 (x4 + 1) hF _ _ _ _ hc hr hS ls (lv_sub hl [2, 3, 4, 1, 0] rfl)
  have lp1 := loop n
  have ml1 := moX2_reach_r n
  have hc : cst h0 0 0 h := by rw [eh0]; exact cst_0
  unfold GX2_reach GX2_reach_0 at hF
  refine lv_aload_n hx hb dX2_reach_0 rfl (lv_at hl 0 rfl) ?_
  obtain ⟨fs1, x1_, e1, f1, hF⟩ := gI_s hF
  refine h_get (C := RX2) (T := TX2) (N := 11) hx hb hts in_X2 hown hGr hr e1 (by decide) rfl 1 (by decide) (hts _ q565) (fun _ h9 => h9) f1 dX2_reach_1 ?_
  refine lv_aload_n hx hb dX2_reach_4 rfl (lv_at hl 0 rfl) ?_
  obtain ⟨fs2, x2_, e2, f2, hF⟩ := gI_s hF
  refine h_get (C := RX2) (T := TX2) (N := 11) hx hb hts in_X2 hown hGr hr e2 (by decide) rfl 1 (by decide) (hts _ q565) (fun _ h9 => h9) f2 dX2_reach_5 ?_
  obtain ⟨a3_, h3, ea3, eh3, g3, gk3, hF⟩ := nM_s hF
  have mm3 : hle h3 out.2 := (show Mo h3 _ from mo_tr hle_rf (ml1 h3 a0 a1 a3_ a1 (0 : Int32))) _ hF
  replace hc := cst_mul hc eh3
  refine h_multi hx hb hown (hts _ q547) (hts _ q177) hGr hr hS g3 gk3 (bud_m hc mm3 hmc hms).1 (bud_m hc mm3 hmc hms).2 dX2_reach_8 (fun H hr hS => ?_)
  rw [← eh3] at hr
  rw [← ea3]
  refine lv_astore_n (lv' := [(2, .ref a3_), (0, .ref a0), (1, .ref a1)]) hx hb dX2_reach_12 rfl hl (by decide) rfl (fun ls hl => ?_)
  refine lv_aload_n hx hb dX2_reach_13 rfl (lv_at hl 2 rfl) ?_
  refine lv_astore_n (lv' := [(3, .ref a1), (2, .ref a3_), (0, .ref a0), (1, .ref a1)]) hx hb dX2_reach_14 rfl hl (by decide) rfl (fun ls hl => ?_)
  refine lv_iconst (v := 0) hx hb dX2_reach_15 (by decide) ?_
  refine lv_istore (lv' := [(4, .int 0), (3, .ref a1), (2, .ref a3_), (0, .ref a0), (1, .ref a1)]) hx hb dX2_reach_16 hl (by decide) rfl (fun ls hl => ?_)
  exact lp1 h3 a0 a1 a3_ a1 (0 : Int32) hF _ _ _ _ hc hr hS ls (lv_sub hl [3, 4, 2, 1, 0] rfl)
