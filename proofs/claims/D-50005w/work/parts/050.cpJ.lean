/-! the component and what it calls of the library, walked by program (tool/dc.py): G.. the pure function, mo.. its growth, mg.. the contract -/
def GX6_init (h : Hp) (a0 : Nat) (a1 : Nat) (p2 : Int32) : Option (Int32 × Hp) := pV h a0 5 4 (.ref a1) (fun h1 => pV h1 a0 5 0 (.int p2) (fun h2 => pV h2 a1 1 5 (.int (-1)) (fun h3 => some (0, h3))))
theorem moX6_init (h : Hp) (a0 : Nat) (a1 : Nat) (p2 : Int32) : Mo h (GX6_init h a0 a1 p2) := by
  unfold GX6_init
  exact mo_pV hle_rf (fun h1 m1 => mo_pV m1 (fun h2 m2 => mo_pV m2 (fun h3 m3 => mo_ret m3)))
set_option maxHeartbeats 4000000 in
set_option maxRecDepth 100000 in
theorem mgX6_init (l : Launch) (D : HD) (A : Nat → Prop) (h : Hp) (a0 : Nat) (a1 : Nat) (p2 : Int32) (out : Int32 × Hp) (hF : GX6_init h a0 a1 p2 = some out) (mc ms : Nat) (hmc : hCc out.2 = hCc h + mc) (hms : hSl out.2 = hSl h + ms) : Met l yX6_init (ws_ yX6_init cX6_init 3 none) ({ frames := 1, cells := mc, slots := ms, locals := 20 }) (va_Pc [.ref a0, .ref a1, .int p2] (hW D A h)) (va_Qv (fun u => (0, u) = out) (hW D A) A) mc ms A := by
  refine Met.ofW (cc := cX6_init) (maxL := 3) (ret := none) (by decide +kernel) rfl ?_
  intro p e s m args below meth c s₁ B hml hv
  obtain ⟨rfl, hr, hGr⟩ := hv
  have hx := B.exec
  have hb := B.bytes
  have hret := B.returns
  have hts := atoms_spec (ws := (ws_ yX6_init cX6_init 3 none)) B.pre
  have hts : ∀ w ∈ lw_all, w.before _ s = true := fun w h => hts w (List.mem_cons_of_mem _ h)
  have hown : s.vm.findClass RX6 = some m.cls := findClass_of_methodNamed B.named
  have hlocks := B.notSynchronized
  have hin : meth.name = "<init>" := (name_of_methodNamed B.named B.method).1
  have hS : va_S A s.heap s.heap [] := va_S.rf
  have hc : cst h 0 0 h := cst_0
  have hl := lv_entry ([.ref a0, .ref a1, .int p2]) (n := 3) (Nat.le_of_ble_eq_true rfl)
  rw [lg_entry_eq]
  generalize (lg_sl ([.ref a0, .ref a1, .int p2]) ++ List.replicate (3 - (lg_sl ([.ref a0, .ref a1, .int p2])).length) Slot.unset).toArray = ls at hl ⊢
  have hl : lv_has ls 3 [(0, .ref a0), (1, .ref a1), (2, .int p2)] := hl
  unfold GX6_init at hF
  refine lv_aload_n hx hb dX6_init_0 rfl (lv_at hl 0 rfl) ?_
  refine lv_aload_n hx hb dX6_init_1 rfl (lv_at hl 1 rfl) ?_
  obtain ⟨fs1, e1, k1, lo1, hF⟩ := pV_s hF
  obtain ⟨h1, eh1⟩ : ∃ z, z = hPut h a0 (.inr (5, fs1.set 4 (.ref a1))) := ⟨_, rfl⟩
  rw [← eh1] at hF
  refine h_putF (C := RX6) (T := TX6) (N := 5) hx hb hts in_X6 tyX6 tyX6_ok nmX6 hown hGr hr hS e1 (by decide) rfl 4 (by decide) (hts _ q1441) (fun _ h9 => h9) rfl hin rfl (tyX6_ok 4 (by decide)) rfl rfl k1 lo1 dX6_init_2 (fun H locs hr hS => ?_)
  rw [← eh1] at hr
  replace hc := cst_put hc eh1
  refine lv_aload_n hx hb dX6_init_5 rfl (lv_at hl 0 rfl) ?_
  refine W.objInit hx hb hown (hts _ q1436) (hts _ q149) (hts _ q150) rfl (by rw [hml]; exact hl.1) rfl dX6_init_6 (Nat.le_of_ble_eq_true rfl) (Nat.le_of_ble_eq_true rfl) ?_
  refine W.eq (g2 := F0 m 9 ls []) rfl ?_
  refine lv_aload_n hx hb dX6_init_9 rfl (lv_at hl 0 rfl) ?_
  refine lv_iload_n hx hb dX6_init_10 rfl (lv_at hl 2 rfl) ?_
  obtain ⟨fs2, e2, k2, lo2, hF⟩ := pV_s hF
  obtain ⟨h2, eh2⟩ : ∃ z, z = hPut h1 a0 (.inr (5, fs2.set 0 (.int p2))) := ⟨_, rfl⟩
  rw [← eh2] at hF
  refine h_putF (C := RX6) (T := TX6) (N := 5) hx hb hts in_X6 tyX6 tyX6_ok nmX6 hown hGr hr hS e2 (by decide) rfl 0 (by decide) (hts _ q1437) (fun _ h9 => h9) rfl hin rfl (tyX6_ok 0 (by decide)) rfl rfl k2 lo2 dX6_init_11 (fun H locs hr hS => ?_)
  rw [← eh2] at hr
  replace hc := cst_put hc eh2
  refine lv_aload_n hx hb dX6_init_14 rfl (lv_at hl 1 rfl) ?_
  refine lv_iconst (v := (-1)) hx hb dX6_init_15 (by decide) ?_
  obtain ⟨fs3, e3, k3, lo3, hF⟩ := pV_s hF
  obtain ⟨h3, eh3⟩ : ∃ z, z = hPut h2 a1 (.inr (1, fs3.set 5 (.int (-1)))) := ⟨_, rfl⟩
  rw [← eh3] at hF
  refine h_putN (C := RX1) (T := TX1) (N := 7) hx hb hts in_X1 tyX1 tyX1_ok nmX1 hown hGr hr hS e3 (by decide) rfl 5 (by decide) (va_Nw.use rfl (hGr.nw q640 rfl)) (fun _ h9 => h9) rfl (tyX1_ok 5 (by decide)) rfl rfl k3 lo3 dX6_init_16 (fun H locs hr hS => ?_)
  rw [← eh3] at hr
  replace hc := cst_put hc eh3
  have bz := bud_r hc hF hmc hms
  refine W.widen (k := mc) (n := ms) bz.1 bz.2 ?_
  exact W.vret hx hb hret (fun t ht hWm => ⟨⟨h3, rfl, Option.some.inj hF, h_end hGr hr hS ht hWm⟩, hS.F ht⟩) hS.2.2 dX6_init_19

def GX6_require (kz : Nat → Nat) (h : Hp) (a0 : Nat) (p1 : Int32) (p2 : Int32) (p3 : Int32) : Option ((Int32 ⊕ Xq) × Hp) := if p1 = 0 then nW h 6 [.null, .null, .null, .null, .null, .int 0, .int 0, .int 0] 8 (fun a2_ h2 => bnd (GX7_init kz h2 a2_ p2 p3) (fun r3 u3 => gC u3 a2_ 6 (some (.inr (4, a2_), u3)))) else some (.inl 0, h)
theorem moX6_require (kz : Nat → Nat) (h : Hp) (a0 : Nat) (p1 : Int32) (p2 : Int32) (p3 : Int32) : Mo h (GX6_require kz h a0 p1 p2 p3) := by
  unfold GX6_require
  exact mo_ite (mo_nW hle_rf (fun a2_ h2 m2 => mo_bnd (moX7_init kz h2 a2_ p2 p3) m2 (fun r3 u3 m3 => mo_gC (mo_ret m3)))) (mo_ret hle_rf)
set_option maxHeartbeats 4000000 in
set_option maxRecDepth 100000 in
theorem mgX6_require (l : Launch) (hl0 : l.stackTraces = false) (D : HD) (A : Nat → Prop) (h : Hp) (a0 : Nat) (p1 : Int32) (p2 : Int32) (p3 : Int32) (out : (Int32 ⊕ Xq) × Hp) (hF : GX6_require D.2 h a0 p1 p2 p3 = some out) (mc ms : Nat) (hmc : hCc out.2 = hCc h + mc) (hms : hSl out.2 = hSl h + ms) : vx_Met l yX6_require (ws_ yX6_require cX6_require 4 none) ({ frames := 4, cells := mc, slots := ms, locals := 90 }) (va_Pc [.ref a0, .int p1, .int p2, .int p3] (hW D A h)) (va_Qv (fun u => ((.inl 0 : Int32 ⊕ Xq), u) = out) (hW D A) A) (xC D A out) mc ms A := by
  refine vx_ofW (cc := cX6_require) (maxL := 4) (ret := none) (by decide +kernel) rfl ?_
  intro p e s m args below meth c s₁ B hml htb hv
  obtain ⟨rfl, hr, hGr⟩ := hv
  have hx := B.exec
  have hb := B.bytes
  have hret := B.returns
  have hts := atoms_spec (ws := (ws_ yX6_require cX6_require 4 none)) B.pre
  have hts : ∀ w ∈ lw_all, w.before _ s = true := fun w h => hts w (List.mem_cons_of_mem _ h)
  have hown : s.vm.findClass RX6 = some m.cls := findClass_of_methodNamed B.named
  have hlocks := B.notSynchronized
  have hS : va_S A s.heap s.heap [] := va_S.rf
  have hc : cst h 0 0 h := cst_0
  have hl := lv_entry ([.ref a0, .int p1, .int p2, .int p3]) (n := 4) (Nat.le_of_ble_eq_true rfl)
  rw [lg_entry_eq]
  generalize (lg_sl ([.ref a0, .int p1, .int p2, .int p3]) ++ List.replicate (4 - (lg_sl ([.ref a0, .int p1, .int p2, .int p3])).length) Slot.unset).toArray = ls at hl ⊢
  have hl : lv_has ls 4 [(0, .ref a0), (1, .int p1), (2, .int p2), (3, .int p3)] := hl
  unfold GX6_require at hF
  refine lv_iload_n hx hb dX6_require_0 rfl (lv_at hl 1 rfl) ?_
  refine lv_if_ne (tgt := 14) hx hb dX6_require_1 (by decide) (fun c1 => ?_) (fun c1 => ?_)
  · replace hF := it_f c1 hF
    have bz := bud_r hc hF hmc hms
    refine vx_ret ?_
    refine W.widen (k := mc) (n := ms) bz.1 bz.2 ?_
    exact W.vret hx hb hret (fun t ht hWm => ⟨⟨h, rfl, Option.some.inj hF, h_end hGr hr hS ht hWm⟩, hS.F ht⟩) hS.2.2 dX6_require_14
  · replace hF := it_t c1 hF
    obtain ⟨a2_, h2, ea2, eh2, hF⟩ := nW_s hF
    have mm2 : hle h2 out.2 := (show Mo h2 _ from mo_bnd (moX7_init D.2 h2 a2_ p2 p3) hle_rf (fun r3 u3 m3 => mo_gC (mo_ret m3))) _ hF
    replace hc := cst_new hc eh2
    refine h_new (C := RX7) (T := TX7) (N := 8) hx hb hts in_X7 tyX7 tyX7_ok hown (hts _ q1489) (hts _ q1490) (hts _ q135) hGr hr hS (ci := 6) (by decide) rfl (fs := [.null, .null, .null, .null, .null, .int 0, .int 0, .int 0]) (fun j hj => by match j, hj with | 0, _ => rfl | 1, _ => rfl | 2, _ => rfl | 3, _ => rfl | 4, _ => rfl | 5, _ => rfl | 6, _ => rfl | 7, _ => rfl | j + 8, hj => omega) (bud hc mm2 hmc hms).1 (bud hc mm2 hmc hms).2 dX6_require_4 (fun H hr hS => ?_)
    rw [← eh2] at hr
    rw [← ea2]
    refine lv_dup hx hb dX6_require_7 rfl ?_
    refine lv_iload_n hx hb dX6_require_8 rfl (lv_at hl 2 rfl) ?_
    refine lv_iload_n hx hb dX6_require_9 rfl (lv_at hl 3 rfl) ?_
    obtain ⟨r3, u3, e3, hF⟩ := bnd_s hF
    have mm3 : hle u3 out.2 := (show Mo u3 _ from mo_gC (mo_ret hle_rf)) _ hF
    obtain ⟨mc3, ms3, hmc3, hms3⟩ := up_of (moX7_init D.2 h2 a2_ p2 p3 _ e3)
    replace hc := cst_call hc hmc3 hms3
    refine h_callv (va_runI (As := [.int p2, .int p3]) (rest := [.ref a2_]) ⟨hx, hb, hml, hown, hts⟩ (mgX7_init l D A h2 a2_ p2 p3 _ e3 mc3 ms3 hmc3 hms3) (cwI 2 hts (lw_meth q1500) rfl rfl rfl (hts _ q135) (hts _ q1498) (hts _ q1499) rfl (by decide +kernel) ⟨Nat.le_of_ble_eq_true rfl, Nat.le_of_ble_eq_true rfl⟩) (h_preS hGr hr hS _) rfl rfl hl.1 rfl (lv_room (Nat.le_of_ble_eq_true rfl)) dX6_require_10 ⟨(bud hc mm3 hmc hms).1, (bud hc mm3 hmc hms).2⟩) hS (fun uu H locs hw hr hS => ?_)
    obtain rfl : u3 = uu := (congrArg Prod.snd hw).symm
    obtain ⟨fs4, e4, hF⟩ := gC_s hF
    have bz := bud_r hc hF hmc hms
    exact h_athr hx hb hGr hr hS htb hlocks e4 hF bz dX6_require_13

def GX6_peek_1 (R : Nat → Hp → Nat → Option (Int32 × Hp)) (n : Nat) (h : Hp) (b0 : Nat) : Option (Int32 × Hp) := gI h b0 5 2 (fun x1_ => gI h b0 5 0 (fun x2_ => if x2_ ≤ x1_ then gI h b0 5 2 (fun x4_ => gI h b0 5 0 (fun x5_ => if x5_ ≤ x4_ then some (((-1) : Int32), h) else gQ h b0 5 4 (fun x7_ => gQ h x7_ 1 3 (fun x8_ => gI h b0 5 2 (fun x9_ => aI h x8_ 1 x9_ (fun x10_ => some ((x10_ &&& 255), h))))))) else gQ h b0 5 4 (fun x11_ => gQ h x11_ 1 3 (fun x12_ => gI h b0 5 2 (fun x13_ => aI h x12_ 1 x13_ (fun x14_ => if x14_ = 32 then gI h b0 5 2 (fun x23_ => pV h b0 5 2 (.int (x23_ + 1)) (fun h24 => R 1 h24 b0)) else gI h b0 5 2 (fun x16_ => gI h b0 5 0 (fun x17_ => if x17_ ≤ x16_ then some (((-1) : Int32), h) else gQ h b0 5 4 (fun x19_ => gQ h x19_ 1 3 (fun x20_ => gI h b0 5 2 (fun x21_ => aI h x20_ 1 x21_ (fun x22_ => some ((x22_ &&& 255), h)))))))))))))
def GX6_peek_r : Nat → Nat → Hp → Nat → Option (Int32 × Hp)
  | 0 => fun _ _ _ => none
  | n + 1 => fun k => match k with  | _ => GX6_peek_1 (GX6_peek_r n) n
def GX6_peek_0 (R : Nat → Hp → Nat → Option (Int32 × Hp)) (n : Nat) (h : Hp) (a0 : Nat) : Option (Int32 × Hp) := R 1 h a0
def GX6_peek (n : Nat) (h : Hp) (a0 : Nat) : Option (Int32 × Hp) := GX6_peek_0 (GX6_peek_r n) n h a0
theorem moX6_peek_r (n : Nat) : (∀ (h : Hp) (b0 : Nat), Mo h (GX6_peek_r n 1 h b0)) := by
  induction n with
  | zero => exact (fun _ _ => mo_no)
  | succ n ih =>
    have ml1 := ih
    exact (fun h b0 => show Mo h (GX6_peek_1 (GX6_peek_r n) n h b0) from by unfold GX6_peek_1; exact mo_gI (fun x1_ => mo_gI (fun x2_ => mo_ite (mo_gI (fun x4_ => mo_gI (fun x5_ => mo_ite (mo_ret hle_rf) (mo_gQ (fun x7_ => mo_gQ (fun x8_ => mo_gI (fun x9_ => mo_aI (fun x10_ => mo_ret hle_rf)))))))) (mo_gQ (fun x11_ => mo_gQ (fun x12_ => mo_gI (fun x13_ => mo_aI (fun x14_ => mo_ite (mo_gI (fun x23_ => mo_pV hle_rf (fun h24 m24 => mo_tr m24 (ml1 h24 b0)))) (mo_gI (fun x16_ => mo_gI (fun x17_ => mo_ite (mo_ret hle_rf) (mo_gQ (fun x19_ => mo_gQ (fun x20_ => mo_gI (fun x21_ => mo_aI (fun x22_ => mo_ret hle_rf))))))))))))))))
theorem moX6_peek (n : Nat) (h : Hp) (a0 : Nat) : Mo h (GX6_peek n h a0) := by
  have ml1 := moX6_peek_r n
  unfold GX6_peek GX6_peek_0
  exact mo_tr hle_rf (ml1 h a0)
set_option maxHeartbeats 4000000 in
set_option maxRecDepth 100000 in
theorem mgX6_peek (l : Launch) (D : HD) (A : Nat → Prop) (h : Hp) (n : Nat) (a0 : Nat) (out : Int32 × Hp) (hF : GX6_peek n h a0 = some out) (mc ms : Nat) (hmc : hCc out.2 = hCc h + mc) (hms : hSl out.2 = hSl h + ms) : Met l yX6_peek (ws_ yX6_peek cX6_peek 1 (some .int)) ({ frames := 0, cells := mc, slots := ms, locals := 0 }) (va_Pc [.ref a0] (hW D A h)) (va_Qi (fun r u => (r, u) = out) (hW D A) A) mc ms A := by
  refine Met.ofW (cc := cX6_peek) (maxL := 1) (ret := (some .int)) (by decide +kernel) rfl ?_
  intro p e s m args below meth c s₁ B hml hv
  obtain ⟨rfl, hr, hGr⟩ := hv
  have hx := B.exec
  have hb := B.bytes
  have hret := B.returns
  have hts := atoms_spec (ws := (ws_ yX6_peek cX6_peek 1 (some .int))) B.pre
  have hts : ∀ w ∈ lw_all, w.before _ s = true := fun w h => hts w (List.mem_cons_of_mem _ h)
  have hown : s.vm.findClass RX6 = some m.cls := findClass_of_methodNamed B.named
  have hlocks := B.notSynchronized
  have hS : va_S A s.heap s.heap [] := va_S.rf
  have hc : cst h 0 0 h := cst_0
  have hl := lv_entry ([.ref a0]) (n := 1) (Nat.le_of_ble_eq_true rfl)
  rw [lg_entry_eq]
  generalize (lg_sl ([.ref a0]) ++ List.replicate (1 - (lg_sl ([.ref a0])).length) Slot.unset).toArray = ls at hl ⊢
  have hl : lv_has ls 1 [(0, .ref a0)] := hl
  obtain ⟨h0, eh0⟩ : ∃ z, z = h := ⟨_, rfl⟩
  rw [← eh0] at hmc hms
  have loop : ∀ n : Nat, (∀ (h : Hp) (b0 : Nat), GX6_peek_r n 1 h b0 = some out → ∀ (H : Heap) (locs : List Loc) (cells slots : Nat), cst h0 cells slots h → hR D A h H → va_S A s.heap H locs → ∀ ls : Array Slot, lv_has ls 1 [(0, .ref b0)] → W p l e (headSpec (ws_ yX6_peek cX6_peek 1 (some .int)) ({ frames := 0, cells := mc, slots := ms, locals := 0 })).room s m ([.ref a0] : List Value).toArray below meth c H locs cells slots (MQ below (va_Qi (fun r u => (r, u) = out) (hW D A) A) ([.ref a0] : List Value).toArray s mc ms A) (F0 m 0 ls [])) := by
    intro n
    induction n with
    | zero => exact (fun _ _ h => nomatch h)
    | succ n ih =>
      have lp1 := ih
      have ml1 := moX6_peek_r n
      intro h b0 hF H locs cells slots hc hr hS ls hl
      replace hF : GX6_peek_1 (GX6_peek_r n) n h b0 = some out := hF
      unfold GX6_peek_1 at hF
      refine lv_aload_n hx hb dX6_peek_0 rfl (lv_at hl 0 rfl) ?_
      obtain ⟨fs1, x1_, e1, f1, hF⟩ := gI_s hF
      refine h_get (C := RX6) (T := TX6) (N := 5) hx hb hts in_X6 hown hGr hr e1 (by decide) rfl 2 (by decide) (hts _ q1439) (fun _ h9 => h9) f1 dX6_peek_1 ?_
      refine lv_aload_n hx hb dX6_peek_4 rfl (lv_at hl 0 rfl) ?_
      obtain ⟨fs2, x2_, e2, f2, hF⟩ := gI_s hF
      refine h_get (C := RX6) (T := TX6) (N := 5) hx hb hts in_X6 hown hGr hr e2 (by decide) rfl 0 (by decide) (hts _ q1437) (fun _ h9 => h9) f2 dX6_peek_5 ?_
      refine lv_icmp_ge (tgt := 41) hx hb dX6_peek_8 (by decide) (fun c3 => ?_) (fun c3 => ?_)
      · replace hF := it_t c3 hF
        refine lv_aload_n hx hb dX6_peek_41 rfl (lv_at hl 0 rfl) ?_
        obtain ⟨fs4, x4_, e4, f4, hF⟩ := gI_s hF
        refine h_get (C := RX6) (T := TX6) (N := 5) hx hb hts in_X6 hown hGr hr e4 (by decide) rfl 2 (by decide) (hts _ q1439) (fun _ h9 => h9) f4 dX6_peek_42 ?_
        refine lv_aload_n hx hb dX6_peek_45 rfl (lv_at hl 0 rfl) ?_
        obtain ⟨fs5, x5_, e5, f5, hF⟩ := gI_s hF
        refine h_get (C := RX6) (T := TX6) (N := 5) hx hb hts in_X6 hown hGr hr e5 (by decide) rfl 0 (by decide) (hts _ q1437) (fun _ h9 => h9) f5 dX6_peek_46 ?_
        refine lv_icmp_ge (tgt := 71) hx hb dX6_peek_49 (by decide) (fun c6 => ?_) (fun c6 => ?_)
        · replace hF := it_t c6 hF
          refine lv_iconst (v := (-1)) hx hb dX6_peek_71 (by decide) ?_
          have bz := bud_r hc hF hmc hms
          refine W.widen (k := mc) (n := ms) bz.1 bz.2 ?_
          exact W.iret (v := ((-1) : Int32)) hx hb hret (fun t ht hWm => ⟨⟨((-1) : Int32), h, rfl, Option.some.inj hF, h_end hGr hr hS ht hWm⟩, hS.F ht⟩) hS.2.2 dX6_peek_72
        · replace hF := it_f c6 hF
          refine lv_aload_n hx hb dX6_peek_52 rfl (lv_at hl 0 rfl) ?_
          obtain ⟨fs7, x7_, e7, f7, hF⟩ := gQ_s hF
          refine h_get (C := RX6) (T := TX6) (N := 5) hx hb hts in_X6 hown hGr hr e7 (by decide) rfl 4 (by decide) (hts _ q1441) (fun _ h9 => h9) f7 dX6_peek_53 ?_
          obtain ⟨fs8, x8_, e8, f8, hF⟩ := gQ_s hF
          refine h_getN (C := RX1) (T := TX1) (N := 7) hx hb hts in_X1 hown hGr hr e8 (by decide) rfl 3 (by decide) (va_Nw.use rfl (hGr.nw q636 rfl)) (fun _ h9 => h9) f8 dX6_peek_56 ?_
          refine lv_aload_n hx hb dX6_peek_59 rfl (lv_at hl 0 rfl) ?_
          obtain ⟨fs9, x9_, e9, f9, hF⟩ := gI_s hF
          refine h_get (C := RX6) (T := TX6) (N := 5) hx hb hts in_X6 hown hGr hr e9 (by decide) rfl 2 (by decide) (hts _ q1439) (fun _ h9 => h9) f9 dX6_peek_60 ?_
          obtain ⟨n10, f10, e10, g10, hF⟩ := aI_s hF
          obtain ⟨x10_, ex10⟩ : ∃ z, z = f10 (x9_).toNatClampNeg := ⟨_, rfl⟩
          rw [← ex10] at hF
          refine h_bald hx hb hGr hr 1 rfl e10 g10 dX6_peek_63 ?_
          rw [← ex10]
          refine lv_sipush (v := 255) hx hb dX6_peek_64 (by decide) ?_
          refine lv_iand hx hb dX6_peek_67 ?_
          refine lv_goto (tgt := 72) hx hb dX6_peek_68 (by decide) ?_
          have bz := bud_r hc hF hmc hms
          refine W.widen (k := mc) (n := ms) bz.1 bz.2 ?_
          exact W.iret (v := (x10_ &&& 255)) hx hb hret (fun t ht hWm => ⟨⟨(x10_ &&& 255), h, rfl, Option.some.inj hF, h_end hGr hr hS ht hWm⟩, hS.F ht⟩) hS.2.2 dX6_peek_72
      · replace hF := it_f c3 hF
        refine lv_aload_n hx hb dX6_peek_11 rfl (lv_at hl 0 rfl) ?_
        obtain ⟨fs11, x11_, e11, f11, hF⟩ := gQ_s hF
        refine h_get (C := RX6) (T := TX6) (N := 5) hx hb hts in_X6 hown hGr hr e11 (by decide) rfl 4 (by decide) (hts _ q1441) (fun _ h9 => h9) f11 dX6_peek_12 ?_
        obtain ⟨fs12, x12_, e12, f12, hF⟩ := gQ_s hF
        refine h_getN (C := RX1) (T := TX1) (N := 7) hx hb hts in_X1 hown hGr hr e12 (by decide) rfl 3 (by decide) (va_Nw.use rfl (hGr.nw q636 rfl)) (fun _ h9 => h9) f12 dX6_peek_15 ?_
        refine lv_aload_n hx hb dX6_peek_18 rfl (lv_at hl 0 rfl) ?_
        obtain ⟨fs13, x13_, e13, f13, hF⟩ := gI_s hF
        refine h_get (C := RX6) (T := TX6) (N := 5) hx hb hts in_X6 hown hGr hr e13 (by decide) rfl 2 (by decide) (hts _ q1439) (fun _ h9 => h9) f13 dX6_peek_19 ?_
        obtain ⟨n14, f14, e14, g14, hF⟩ := aI_s hF
        obtain ⟨x14_, ex14⟩ : ∃ z, z = f14 (x13_).toNatClampNeg := ⟨_, rfl⟩
        rw [← ex14] at hF
        refine h_bald hx hb hGr hr 1 rfl e14 g14 dX6_peek_22 ?_
        rw [← ex14]
        refine lv_bipush (v := 32) hx hb dX6_peek_23 (by decide) ?_
        refine lv_icmp_ne (tgt := 41) hx hb dX6_peek_25 (by decide) (fun c15 => ?_) (fun c15 => ?_)
        · replace hF := it_f c15 hF
          refine lv_aload_n hx hb dX6_peek_41 rfl (lv_at hl 0 rfl) ?_
          obtain ⟨fs16, x16_, e16, f16, hF⟩ := gI_s hF
          refine h_get (C := RX6) (T := TX6) (N := 5) hx hb hts in_X6 hown hGr hr e16 (by decide) rfl 2 (by decide) (hts _ q1439) (fun _ h9 => h9) f16 dX6_peek_42 ?_
          refine lv_aload_n hx hb dX6_peek_45 rfl (lv_at hl 0 rfl) ?_
          obtain ⟨fs17, x17_, e17, f17, hF⟩ := gI_s hF
          refine h_get (C := RX6) (T := TX6) (N := 5) hx hb hts in_X6 hown hGr hr e17 (by decide) rfl 0 (by decide) (hts _ q1437) (fun _ h9 => h9) f17 dX6_peek_46 ?_
          refine lv_icmp_ge (tgt := 71) hx hb dX6_peek_49 (by decide) (fun c18 => ?_) (fun c18 => ?_)
          · replace hF := it_t c18 hF
            refine lv_iconst (v := (-1)) hx hb dX6_peek_71 (by decide) ?_
            have bz := bud_r hc hF hmc hms
            refine W.widen (k := mc) (n := ms) bz.1 bz.2 ?_
            exact W.iret (v := ((-1) : Int32)) hx hb hret (fun t ht hWm => ⟨⟨((-1) : Int32), h, rfl, Option.some.inj hF, h_end hGr hr hS ht hWm⟩, hS.F ht⟩) hS.2.2 dX6_peek_72
          · replace hF := it_f c18 hF
            refine lv_aload_n hx hb dX6_peek_52 rfl (lv_at hl 0 rfl) ?_
            obtain ⟨fs19, x19_, e19, f19, hF⟩ := gQ_s hF
            refine h_get (C := RX6) (T := TX6) (N := 5) hx hb hts in_X6 hown hGr hr e19 (by decide) rfl 4 (by decide) (hts _ q1441) (fun _ h9 => h9) f19 dX6_peek_53 ?_
            obtain ⟨fs20, x20_, e20, f20, hF⟩ := gQ_s hF
            refine h_getN (C := RX1) (T := TX1) (N := 7) hx hb hts in_X1 hown hGr hr e20 (by decide) rfl 3 (by decide) (va_Nw.use rfl (hGr.nw q636 rfl)) (fun _ h9 => h9) f20 dX6_peek_56 ?_
            refine lv_aload_n hx hb dX6_peek_59 rfl (lv_at hl 0 rfl) ?_
            obtain ⟨fs21, x21_, e21, f21, hF⟩ := gI_s hF
            refine h_get (C := RX6) (T := TX6) (N := 5) hx hb hts in_X6 hown hGr hr e21 (by decide) rfl 2 (by decide) (hts _ q1439) (fun _ h9 => h9) f21 dX6_peek_60 ?_
            obtain ⟨n22, f22, e22, g22, hF⟩ := aI_s hF
            obtain ⟨x22_, ex22⟩ : ∃ z, z = f22 (x21_).toNatClampNeg := ⟨_, rfl⟩
            rw [← ex22] at hF
            refine h_bald hx hb hGr hr 1 rfl e22 g22 dX6_peek_63 ?_
            rw [← ex22]
            refine lv_sipush (v := 255) hx hb dX6_peek_64 (by decide) ?_
            refine lv_iand hx hb dX6_peek_67 ?_
            refine lv_goto (tgt := 72) hx hb dX6_peek_68 (by decide) ?_
            have bz := bud_r hc hF hmc hms
            refine W.widen (k := mc) (n := ms) bz.1 bz.2 ?_
            exact W.iret (v := (x22_ &&& 255)) hx hb hret (fun t ht hWm => ⟨⟨(x22_ &&& 255), h, rfl, Option.some.inj hF, h_end hGr hr hS ht hWm⟩, hS.F ht⟩) hS.2.2 dX6_peek_72
        · replace hF := it_t c15 hF
          refine lv_aload_n hx hb dX6_peek_28 rfl (lv_at hl 0 rfl) ?_
          refine lv_dup hx hb dX6_peek_29 rfl ?_
          obtain ⟨fs23, x23_, e23, f23, hF⟩ := gI_s hF
          refine h_get (C := RX6) (T := TX6) (N := 5) hx hb hts in_X6 hown hGr hr e23 (by decide) rfl 2 (by decide) (hts _ q1439) (fun _ h9 => h9) f23 dX6_peek_30 ?_
          refine lv_iconst (v := 1) hx hb dX6_peek_33 (by decide) ?_
          refine lv_iadd hx hb dX6_peek_34 ?_
          obtain ⟨fs24, e24, k24, lo24, hF⟩ := pV_s hF
          obtain ⟨h24, eh24⟩ : ∃ z, z = hPut h b0 (.inr (5, fs24.set 2 (.int (x23_ + 1)))) := ⟨_, rfl⟩
          rw [← eh24] at hF
          refine h_put (C := RX6) (T := TX6) (N := 5) hx hb hts in_X6 tyX6 tyX6_ok nmX6 hown hGr hr hS e24 (by decide) rfl 2 (by decide) (hts _ q1439) (fun _ h9 => h9) rfl (tyX6_ok 2 (by decide)) rfl rfl k24 lo24 dX6_peek_35 (fun H locs hr hS => ?_)
          rw [← eh24] at hr
          replace hc := cst_put hc eh24
          refine lv_goto (tgt := 0) hx hb dX6_peek_38 (by decide) ?_
          exact lp1 h24 b0 hF _ _ _ _ hc hr hS ls (lv_sub hl [0] rfl)
  have lp1 := loop n
  have ml1 := moX6_peek_r n
  have hc : cst h0 0 0 h := by rw [eh0]; exact cst_0
  unfold GX6_peek GX6_peek_0 at hF
  exact lp1 h a0 hF _ _ _ _ hc hr hS ls (lv_sub hl [0] rfl)

def GX6_isNumberNext (n : Nat) (h : Hp) (a0 : Nat) : Option (Int32 × Hp) := gC h a0 5 (bnd (GX6_peek n h a0) (fun r1 u1 => bnd (GX1_inRange u1 ((r1).toInt64) (48 : Int64) (57 : Int64)) (fun r2 u2 => gd (zbB r2) (some (r2, u2)))))
theorem moX6_isNumberNext (n : Nat) (h : Hp) (a0 : Nat) : Mo h (GX6_isNumberNext n h a0) := by
  unfold GX6_isNumberNext
  exact mo_gC (mo_bnd (moX6_peek n h a0) hle_rf (fun r1 u1 m1 => mo_bnd (moX1_inRange u1 ((r1).toInt64) (48 : Int64) (57 : Int64)) m1 (fun r2 u2 m2 => mo_gd (mo_ret m2))))
set_option maxHeartbeats 4000000 in
set_option maxRecDepth 100000 in
theorem mgX6_isNumberNext (l : Launch) (D : HD) (A : Nat → Prop) (h : Hp) (n : Nat) (a0 : Nat) (out : Int32 × Hp) (hF : GX6_isNumberNext n h a0 = some out) (mc ms : Nat) (hmc : hCc out.2 = hCc h + mc) (hms : hSl out.2 = hSl h + ms) : Met l yX6_isNumberNext (ws_ yX6_isNumberNext cX6_isNumberNext 1 (some .boolean)) ({ frames := 1, cells := mc, slots := ms, locals := 25 }) (va_Pc [.ref a0] (hW D A h)) (va_Qi (fun r u => (r, u) = out) (hW D A) A) mc ms A := by
  refine Met.ofW (cc := cX6_isNumberNext) (maxL := 1) (ret := (some .boolean)) (by decide +kernel) rfl ?_
  intro p e s m args below meth c s₁ B hml hv
  obtain ⟨rfl, hr, hGr⟩ := hv
  have hx := B.exec
  have hb := B.bytes
  have hret := B.returns
  have hts := atoms_spec (ws := (ws_ yX6_isNumberNext cX6_isNumberNext 1 (some .boolean))) B.pre
  have hts : ∀ w ∈ lw_all, w.before _ s = true := fun w h => hts w (List.mem_cons_of_mem _ h)
  have hown : s.vm.findClass RX6 = some m.cls := findClass_of_methodNamed B.named
  have hlocks := B.notSynchronized
  have hS : va_S A s.heap s.heap [] := va_S.rf
  have hc : cst h 0 0 h := cst_0
  have hl := lv_entry ([.ref a0]) (n := 1) (Nat.le_of_ble_eq_true rfl)
  rw [lg_entry_eq]
  generalize (lg_sl ([.ref a0]) ++ List.replicate (1 - (lg_sl ([.ref a0])).length) Slot.unset).toArray = ls at hl ⊢
  have hl : lv_has ls 1 [(0, .ref a0)] := hl
  unfold GX6_isNumberNext at hF
  refine lv_aload_n hx hb dX6_isNumberNext_0 rfl (lv_at hl 0 rfl) ?_
  obtain ⟨fc1, ec1, hF⟩ := gC_s hF
  obtain ⟨r1, u1, e1, hF⟩ := bnd_s hF
  have mm1 : hle u1 out.2 := (show Mo u1 _ from mo_bnd (moX1_inRange u1 ((r1).toInt64) (48 : Int64) (57 : Int64)) hle_rf (fun r2 u2 m2 => mo_gd (mo_ret m2))) _ hF
  obtain ⟨mc1, ms1, hmc1, hms1⟩ := up_of (moX6_peek n h a0 _ e1)
  replace hc := cst_call hc hmc1 hms1
  refine h_calli (va_runV (As := []) (rest := []) ⟨hx, hb, hml, hown, hts⟩ (mgX6_peek l D A h n a0 _ e1 mc1 ms1 hmc1 hms1) (cwV 0 hts (lw_V q1468 q1470 qs29 q134 q1471) rfl rfl rfl (by decide +kernel) ⟨Nat.le_of_ble_eq_true rfl, Nat.le_of_ble_eq_true rfl⟩) (h_preV hGr hr hS ec1 (by decide) (q := (RX6, TX6, 5)) rfl _) rfl rfl hl.1 rfl (lv_room (Nat.le_of_ble_eq_true rfl)) dX6_isNumberNext_1 ⟨(bud hc mm1 hmc hms).1, (bud hc mm1 hmc hms).2⟩) hS (fun rr uu H locs hw hr hS => ?_)
  obtain rfl : u1 = uu := (congrArg Prod.snd hw).symm
  obtain rfl : r1 = rr := (congrArg Prod.fst hw).symm
  refine lv_i2l (v := (r1).toInt64) hx hb dX6_isNumberNext_4 rfl ?_
  refine lv_ldc2 hx hb hown (hts _ q1526) dX6_isNumberNext_5 ?_
  refine lv_ldc2 hx hb hown (hts _ q1527) dX6_isNumberNext_8 ?_
  obtain ⟨r2, u2, e2, hF⟩ := bnd_s hF
  have mm2 : hle u2 out.2 := (show Mo u2 _ from mo_gd (mo_ret hle_rf)) _ hF
  obtain ⟨mc2, ms2, hmc2, hms2⟩ := up_of (moX1_inRange u1 ((r1).toInt64) (48 : Int64) (57 : Int64) _ e2)
  replace hc := cst_call hc hmc2 hms2
  refine h_calli (va_runSN (As := [.long ((r1).toInt64), .long (48 : Int64), .long (57 : Int64)]) (rest := []) ⟨hx, hb, hml, hown, hts⟩ (mgX1_inRange l D A u1 ((r1).toInt64) (48 : Int64) (57 : Int64) _ e2 mc2 ms2 hmc2 hms2) (⟨va_cnB 3 hts (lw_meth q1422) rfl rfl rfl (hGr.nw q1474 rfl) (hts _ q101) (by decide +kernel) ⟨Nat.le_of_ble_eq_true rfl, Nat.le_of_ble_eq_true rfl⟩, (hts _ q1421), trivial⟩) (h_preS hGr hr hS _) rfl rfl hl.1 rfl (lv_room (Nat.le_of_ble_eq_true rfl)) dX6_isNumberNext_11 ⟨(bud hc mm2 hmc hms).1, (bud hc mm2 hmc hms).2⟩) hS (fun rr uu H locs hw hr hS => ?_)
  obtain rfl : u2 = uu := (congrArg Prod.snd hw).symm
  obtain rfl : r2 = rr := (congrArg Prod.fst hw).symm
  obtain ⟨g3, hF⟩ := gd_s hF
  have bz := bud_r hc hF hmc hms
  refine W.widen (k := mc) (n := ms) bz.1 bz.2 ?_
  exact W.zret (v := r2) hx hb hret (zb_of g3) (fun t ht hWm => ⟨⟨r2, u2, rfl, Option.some.inj hF, h_end hGr hr hS ht hWm⟩, hS.F ht⟩) hS.2.2 dX6_isNumberNext_14

def GX6_number_1 (kz : Nat → Nat) (R : Nat → Hp → Nat → Int32 → Int32 → Int32 → Int32 → Option ((Int32 ⊕ Xq) × Hp)) (n : Nat) (h : Hp) (b0 : Nat) (x1 : Int32) (x2 : Int32) (x3 : Int32) (x4 : Int32) : Option ((Int32 ⊕ Xq) × Hp) := gI h b0 5 2 (fun x6_ => gI h b0 5 0 (fun x7_ => if x7_ ≤ x6_ then bnd (GX1_inRange h ((x4).toInt64) ((x1).toInt64) ((x2).toInt64)) (fun r9 u9 => gI u9 b0 5 3 (fun x10_ => gC u9 b0 5 (bnx (GX6_require kz u9 b0 r9 ((-3) : Int32) x10_) (fun r11 u11 => some (.inl x4, u11))))) else gQ h b0 5 4 (fun x12_ => gQ h x12_ 1 3 (fun x13_ => gI h b0 5 2 (fun x14_ => aI h x13_ 1 x14_ (fun x15_ => bnd (GX1_inRange h ((x15_).toInt64) (48 : Int64) (57 : Int64)) (fun r16 u16 => if r16 = 0 then bnd (GX1_inRange u16 ((x4).toInt64) ((x1).toInt64) ((x2).toInt64)) (fun r18 u18 => gI u18 b0 5 3 (fun x19_ => gC u18 b0 5 (bnx (GX6_require kz u18 b0 r18 ((-3) : Int32) x19_) (fun r20 u20 => some (.inl x4, u20))))) else gQ u16 b0 5 4 (fun x21_ => gQ u16 x21_ 1 3 (fun x22_ => gI u16 b0 5 2 (fun x23_ => aI u16 x22_ 1 x23_ (fun x24_ => gI u16 b0 5 2 (fun x26_ => pV u16 b0 5 2 (.int (x26_ + 1)) (fun h27 => R 1 h27 b0 x1 x2 x3 (if (((10 * x4) + x24_) - 48) < (1000000 : Int32) then (((10 * x4) + x24_) - 48) else (1000000 : Int32)))))))))))))))
def GX6_number_r (kz : Nat → Nat) : Nat → Nat → Hp → Nat → Int32 → Int32 → Int32 → Int32 → Option ((Int32 ⊕ Xq) × Hp)
  | 0 => fun _ _ _ _ _ _ _ => none
  | n + 1 => fun k => match k with  | _ => GX6_number_1 kz (GX6_number_r kz n) n
def GX6_number_0 (kz : Nat → Nat) (R : Nat → Hp → Nat → Int32 → Int32 → Int32 → Int32 → Option ((Int32 ⊕ Xq) × Hp)) (n : Nat) (h : Hp) (a0 : Nat) (p1 : Int32) (p2 : Int32) : Option ((Int32 ⊕ Xq) × Hp) := gC h a0 5 (bnd (GX6_isNumberNext n h a0) (fun r1 u1 => gI u1 a0 5 2 (fun x2_ => pV u1 a0 5 3 (.int x2_) (fun h3 => gI h3 a0 5 3 (fun x4_ => gC h3 a0 5 (bnx (GX6_require kz h3 a0 r1 ((-2) : Int32) x4_) (fun r5 u5 => R 1 u5 a0 p1 p2 r1 (0 : Int32))))))))
def GX6_number (kz : Nat → Nat) (n : Nat) (h : Hp) (a0 : Nat) (p1 : Int32) (p2 : Int32) : Option ((Int32 ⊕ Xq) × Hp) := GX6_number_0 kz (GX6_number_r kz n) n h a0 p1 p2
theorem moX6_number_r (kz : Nat → Nat) (n : Nat) : (∀ (h : Hp) (b0 : Nat) (x1 : Int32) (x2 : Int32) (x3 : Int32) (x4 : Int32), Mo h (GX6_number_r kz n 1 h b0 x1 x2 x3 x4)) := by
  induction n with
  | zero => exact (fun _ _ _ _ _ _ => mo_no)
  | succ n ih =>
    have ml1 := ih
    exact (fun h b0 x1 x2 x3 x4 => show Mo h (GX6_number_1 kz (GX6_number_r kz n) n h b0 x1 x2 x3 x4) from by unfold GX6_number_1; exact mo_gI (fun x6_ => mo_gI (fun x7_ => mo_ite (mo_bnd (moX1_inRange h ((x4).toInt64) ((x1).toInt64) ((x2).toInt64)) hle_rf (fun r9 u9 m9 => mo_gI (fun x10_ => mo_gC (mo_bnx (moX6_require kz u9 b0 r9 ((-3) : Int32) x10_) m9 (fun r11 u11 m11 => mo_ret m11))))) (mo_gQ (fun x12_ => mo_gQ (fun x13_ => mo_gI (fun x14_ => mo_aI (fun x15_ => mo_bnd (moX1_inRange h ((x15_).toInt64) (48 : Int64) (57 : Int64)) hle_rf (fun r16 u16 m16 => mo_ite (mo_bnd (moX1_inRange u16 ((x4).toInt64) ((x1).toInt64) ((x2).toInt64)) m16 (fun r18 u18 m18 => mo_gI (fun x19_ => mo_gC (mo_bnx (moX6_require kz u18 b0 r18 ((-3) : Int32) x19_) m18 (fun r20 u20 m20 => mo_ret m20))))) (mo_gQ (fun x21_ => mo_gQ (fun x22_ => mo_gI (fun x23_ => mo_aI (fun x24_ => mo_gI (fun x26_ => mo_pV m16 (fun h27 m27 => mo_tr m27 (ml1 h27 b0 x1 x2 x3 (if (((10 * x4) + x24_) - 48) < (1000000 : Int32) then (((10 * x4) + x24_) - 48) else (1000000 : Int32)))))))))))))))))))
theorem moX6_number (kz : Nat → Nat) (n : Nat) (h : Hp) (a0 : Nat) (p1 : Int32) (p2 : Int32) : Mo h (GX6_number kz n h a0 p1 p2) := by
  have ml1 := moX6_number_r kz n
  unfold GX6_number GX6_number_0
  exact mo_gC (mo_bnd (moX6_isNumberNext n h a0) hle_rf (fun r1 u1 m1 => mo_gI (fun x2_ => mo_pV m1 (fun h3 m3 => mo_gI (fun x4_ => mo_gC (mo_bnx (moX6_require kz h3 a0 r1 ((-2) : Int32) x4_) m3 (fun r5 u5 m5 => mo_tr m5 (ml1 u5 a0 p1 p2 r1 (0 : Int32)))))))))
set_option maxHeartbeats 4000000 in
set_option maxRecDepth 100000 in
theorem mgX6_number (l : Launch) (hl0 : l.stackTraces = false) (D : HD) (A : Nat → Prop) (h : Hp) (n : Nat) (a0 : Nat) (p1 : Int32) (p2 : Int32) (out : (Int32 ⊕ Xq) × Hp) (hF : GX6_number D.2 n h a0 p1 p2 = some out) (mc ms : Nat) (hmc : hCc out.2 = hCc h + mc) (hms : hSl out.2 = hSl h + ms) : vx_Met l yX6_number (ws_ yX6_number cX6_number 5 (some .int)) ({ frames := 5, cells := mc, slots := ms, locals := 113 }) (va_Pc [.ref a0, .int p1, .int p2] (hW D A h)) (va_Qi (fun r u => ((.inl r : Int32 ⊕ Xq), u) = out) (hW D A) A) (xC D A out) mc ms A := by
  refine vx_ofW (cc := cX6_number) (maxL := 5) (ret := (some .int)) (by decide +kernel) rfl ?_
  intro p e s m args below meth c s₁ B hml htb hv
  obtain ⟨rfl, hr, hGr⟩ := hv
  have hx := B.exec
  have hb := B.bytes
  have hret := B.returns
  have hts := atoms_spec (ws := (ws_ yX6_number cX6_number 5 (some .int))) B.pre
  have hts : ∀ w ∈ lw_all, w.before _ s = true := fun w h => hts w (List.mem_cons_of_mem _ h)
  have hown : s.vm.findClass RX6 = some m.cls := findClass_of_methodNamed B.named
  have hlocks := B.notSynchronized
  have hS : va_S A s.heap s.heap [] := va_S.rf
  have hc : cst h 0 0 h := cst_0
  have hl := lv_entry ([.ref a0, .int p1, .int p2]) (n := 5) (Nat.le_of_ble_eq_true rfl)
  rw [lg_entry_eq]
  generalize (lg_sl ([.ref a0, .int p1, .int p2]) ++ List.replicate (5 - (lg_sl ([.ref a0, .int p1, .int p2])).length) Slot.unset).toArray = ls at hl ⊢
  have hl : lv_has ls 5 [(0, .ref a0), (1, .int p1), (2, .int p2)] := hl
  obtain ⟨h0, eh0⟩ : ∃ z, z = h := ⟨_, rfl⟩
  rw [← eh0] at hmc hms
  have loop : ∀ n : Nat, (∀ (h : Hp) (b0 : Nat) (x1 : Int32) (x2 : Int32) (x3 : Int32) (x4 : Int32), GX6_number_r D.2 n 1 h b0 x1 x2 x3 x4 = some out → ∀ (H : Heap) (locs : List Loc) (cells slots : Nat), cst h0 cells slots h → hR D A h H → va_S A s.heap H locs → ∀ ls : Array Slot, lv_has ls 5 [(0, .ref b0), (1, .int x1), (2, .int x2), (3, .int x3), (4, .int x4)] → W p l e (headSpec (ws_ yX6_number cX6_number 5 (some .int)) ({ frames := 5, cells := mc, slots := ms, locals := 113 })).room s m ([.ref a0, .int p1, .int p2] : List Value).toArray below meth c H locs cells slots (vx_MQ below (va_Qi (fun r u => ((.inl r : Int32 ⊕ Xq), u) = out) (hW D A) A) (xC D A out) ([.ref a0, .int p1, .int p2] : List Value).toArray s mc ms A) (F0 m 27 ls [])) := by
    intro n
    induction n with
    | zero => exact (fun _ _ _ _ _ _ h => nomatch h)
    | succ n ih =>
      have lp1 := ih
      have ml1 := moX6_number_r D.2 n
      intro h b0 x1 x2 x3 x4 hF H locs cells slots hc hr hS ls hl
      replace hF : GX6_number_1 D.2 (GX6_number_r D.2 n) n h b0 x1 x2 x3 x4 = some out := hF
      unfold GX6_number_1 at hF
      refine lv_aload_n hx hb dX6_number_27 rfl (lv_at hl 0 rfl) ?_
      obtain ⟨fs6, x6_, e6, f6, hF⟩ := gI_s hF
      refine h_get (C := RX6) (T := TX6) (N := 5) hx hb hts in_X6 hown hGr hr e6 (by decide) rfl 2 (by decide) (hts _ q1439) (fun _ h9 => h9) f6 dX6_number_28 ?_
      refine lv_aload_n hx hb dX6_number_31 rfl (lv_at hl 0 rfl) ?_
      obtain ⟨fs7, x7_, e7, f7, hF⟩ := gI_s hF
      refine h_get (C := RX6) (T := TX6) (N := 5) hx hb hts in_X6 hown hGr hr e7 (by decide) rfl 0 (by decide) (hts _ q1437) (fun _ h9 => h9) f7 dX6_number_32 ?_
      refine lv_icmp_ge (tgt := 104) hx hb dX6_number_35 (by decide) (fun c8 => ?_) (fun c8 => ?_)
      · replace hF := it_t c8 hF
        refine lv_aload_n hx hb dX6_number_104 rfl (lv_at hl 0 rfl) ?_
        refine lv_iload hx hb dX6_number_105 (lv_at hl 4 rfl) ?_
        refine lv_i2l (v := (x4).toInt64) hx hb dX6_number_107 rfl ?_
        refine lv_iload_n hx hb dX6_number_108 rfl (lv_at hl 1 rfl) ?_
        refine lv_i2l (v := (x1).toInt64) hx hb dX6_number_109 rfl ?_
        refine lv_iload_n hx hb dX6_number_110 rfl (lv_at hl 2 rfl) ?_
        refine lv_i2l (v := (x2).toInt64) hx hb dX6_number_111 rfl ?_
        obtain ⟨r9, u9, e9, hF⟩ := bnd_s hF
        have mm9 : hle u9 out.2 := (show Mo u9 _ from mo_gI (fun x10_ => mo_gC (mo_bnx (moX6_require D.2 u9 b0 r9 ((-3) : Int32) x10_) hle_rf (fun r11 u11 m11 => mo_ret m11)))) _ hF
        obtain ⟨mc9, ms9, hmc9, hms9⟩ := up_of (moX1_inRange h ((x4).toInt64) ((x1).toInt64) ((x2).toInt64) _ e9)
        replace hc := cst_call hc hmc9 hms9
        refine h_calli (va_runSN (As := [.long ((x4).toInt64), .long ((x1).toInt64), .long ((x2).toInt64)]) (rest := [.ref b0]) ⟨hx, hb, hml, hown, hts⟩ (mgX1_inRange l D A h ((x4).toInt64) ((x1).toInt64) ((x2).toInt64) _ e9 mc9 ms9 hmc9 hms9) (⟨va_cnB 3 hts (lw_meth q1422) rfl rfl rfl (hGr.nw q1474 rfl) (hts _ q101) (by decide +kernel) ⟨Nat.le_of_ble_eq_true rfl, Nat.le_of_ble_eq_true rfl⟩, (hts _ q1421), trivial⟩) (h_preS hGr hr hS _) rfl rfl hl.1 rfl (lv_room (Nat.le_of_ble_eq_true rfl)) dX6_number_112 ⟨(bud hc mm9 hmc hms).1, (bud hc mm9 hmc hms).2⟩) hS (fun rr uu H locs hw hr hS => ?_)
        obtain rfl : u9 = uu := (congrArg Prod.snd hw).symm
        obtain rfl : r9 = rr := (congrArg Prod.fst hw).symm
        refine lv_bipush (v := (-3)) hx hb dX6_number_115 (by decide) ?_
        refine lv_aload_n hx hb dX6_number_117 rfl (lv_at hl 0 rfl) ?_
        obtain ⟨fs10, x10_, e10, f10, hF⟩ := gI_s hF
        refine h_get (C := RX6) (T := TX6) (N := 5) hx hb hts in_X6 hown hGr hr e10 (by decide) rfl 3 (by decide) (hts _ q1440) (fun _ h9 => h9) f10 dX6_number_118 ?_
        obtain ⟨fc11, ec11, hF⟩ := gC_s hF
        rcases bnx_s hF with ⟨r11, u11, e11, hF⟩ | ⟨q11, u11, e11, hF⟩
        rotate_left
        · obtain ⟨mc11, ms11, hmc11, hms11⟩ := up_of (moX6_require D.2 u9 b0 r9 ((-3) : Int32) x10_ _ e11)
          have hcx := cst_call hc hmc11 hms11
          have bx11 := bud_r hcx hF hmc hms
          refine h_xthrv rfl (vx_runV (As := [.int r9, .int (-3), .int x10_]) (rest := []) ⟨hx, hb, hml, hown, hts⟩ (mgX6_require l hl0 D A u9 b0 r9 ((-3) : Int32) x10_ _ e11 mc11 ms11 hmc11 hms11) (cwV 3 hts (lw_V q1485 q1487 qs30 q134 q1488) rfl rfl rfl (by decide +kernel) ⟨Nat.le_of_ble_eq_true rfl, Nat.le_of_ble_eq_true rfl⟩) (h_preV hGr hr hS ec11 (by decide) (q := (RX6, TX6, 5)) rfl _) rfl rfl hl.1 rfl (lv_room (Nat.le_of_ble_eq_true rfl)) dX6_number_121 ⟨bx11.1, bx11.2⟩) hS (fun E9 q9 u9 H locs ce9 e1 e2 e3 hr hS h1 h2 h3 => ?_)
          exact h_xpass hGr htb hlocks hF bx11 e1 e2 e3 hr hS h1 h2 h3
        have mm11 : hle u11 out.2 := (show Mo u11 _ from mo_ret hle_rf) _ hF
        obtain ⟨mc11, ms11, hmc11, hms11⟩ := up_of (moX6_require D.2 u9 b0 r9 ((-3) : Int32) x10_ _ e11)
        replace hc := cst_call hc hmc11 hms11
        refine h_xretv rfl (vx_runV (As := [.int r9, .int (-3), .int x10_]) (rest := []) ⟨hx, hb, hml, hown, hts⟩ (mgX6_require l hl0 D A u9 b0 r9 ((-3) : Int32) x10_ _ e11 mc11 ms11 hmc11 hms11) (cwV 3 hts (lw_V q1485 q1487 qs30 q134 q1488) rfl rfl rfl (by decide +kernel) ⟨Nat.le_of_ble_eq_true rfl, Nat.le_of_ble_eq_true rfl⟩) (h_preV hGr hr hS ec11 (by decide) (q := (RX6, TX6, 5)) rfl _) rfl rfl hl.1 rfl (lv_room (Nat.le_of_ble_eq_true rfl)) dX6_number_121 ⟨(bud hc mm11 hmc hms).1, (bud hc mm11 hmc hms).2⟩) hS (fun H locs hr hS => ?_)
        refine lv_iload hx hb dX6_number_124 (lv_at hl 4 rfl) ?_
        have bz := bud_r hc hF hmc hms
        refine vx_ret ?_
        refine W.widen (k := mc) (n := ms) bz.1 bz.2 ?_
        exact W.iret (v := x4) hx hb hret (fun t ht hWm => ⟨⟨x4, u11, rfl, Option.some.inj hF, h_end hGr hr hS ht hWm⟩, hS.F ht⟩) hS.2.2 dX6_number_126
      · replace hF := it_f c8 hF
        refine lv_aload_n hx hb dX6_number_38 rfl (lv_at hl 0 rfl) ?_
        obtain ⟨fs12, x12_, e12, f12, hF⟩ := gQ_s hF
        refine h_get (C := RX6) (T := TX6) (N := 5) hx hb hts in_X6 hown hGr hr e12 (by decide) rfl 4 (by decide) (hts _ q1441) (fun _ h9 => h9) f12 dX6_number_39 ?_
        obtain ⟨fs13, x13_, e13, f13, hF⟩ := gQ_s hF
        refine h_getN (C := RX1) (T := TX1) (N := 7) hx hb hts in_X1 hown hGr hr e13 (by decide) rfl 3 (by decide) (va_Nw.use rfl (hGr.nw q636 rfl)) (fun _ h9 => h9) f13 dX6_number_42 ?_
        refine lv_aload_n hx hb dX6_number_45 rfl (lv_at hl 0 rfl) ?_
        obtain ⟨fs14, x14_, e14, f14, hF⟩ := gI_s hF
        refine h_get (C := RX6) (T := TX6) (N := 5) hx hb hts in_X6 hown hGr hr e14 (by decide) rfl 2 (by decide) (hts _ q1439) (fun _ h9 => h9) f14 dX6_number_46 ?_
        obtain ⟨n15, f15, e15, g15, hF⟩ := aI_s hF
        obtain ⟨x15_, ex15⟩ : ∃ z, z = f15 (x14_).toNatClampNeg := ⟨_, rfl⟩
        rw [← ex15] at hF
        refine h_bald hx hb hGr hr 1 rfl e15 g15 dX6_number_49 ?_
        rw [← ex15]
        refine lv_i2l (v := (x15_).toInt64) hx hb dX6_number_50 rfl ?_
        refine lv_ldc2 hx hb hown (hts _ q1526) dX6_number_51 ?_
        refine lv_ldc2 hx hb hown (hts _ q1527) dX6_number_54 ?_
        obtain ⟨r16, u16, e16, hF⟩ := bnd_s hF
        have mm16 : hle u16 out.2 := (show Mo u16 _ from mo_ite (mo_bnd (moX1_inRange u16 ((x4).toInt64) ((x1).toInt64) ((x2).toInt64)) hle_rf (fun r18 u18 m18 => mo_gI (fun x19_ => mo_gC (mo_bnx (moX6_require D.2 u18 b0 r18 ((-3) : Int32) x19_) m18 (fun r20 u20 m20 => mo_ret m20))))) (mo_gQ (fun x21_ => mo_gQ (fun x22_ => mo_gI (fun x23_ => mo_aI (fun x24_ => mo_gI (fun x26_ => mo_pV hle_rf (fun h27 m27 => mo_tr m27 (ml1 h27 b0 x1 x2 x3 (if (((10 * x4) + x24_) - 48) < (1000000 : Int32) then (((10 * x4) + x24_) - 48) else (1000000 : Int32))))))))))) _ hF
        obtain ⟨mc16, ms16, hmc16, hms16⟩ := up_of (moX1_inRange h ((x15_).toInt64) (48 : Int64) (57 : Int64) _ e16)
        replace hc := cst_call hc hmc16 hms16
        refine h_calli (va_runSN (As := [.long ((x15_).toInt64), .long (48 : Int64), .long (57 : Int64)]) (rest := []) ⟨hx, hb, hml, hown, hts⟩ (mgX1_inRange l D A h ((x15_).toInt64) (48 : Int64) (57 : Int64) _ e16 mc16 ms16 hmc16 hms16) (⟨va_cnB 3 hts (lw_meth q1422) rfl rfl rfl (hGr.nw q1474 rfl) (hts _ q101) (by decide +kernel) ⟨Nat.le_of_ble_eq_true rfl, Nat.le_of_ble_eq_true rfl⟩, (hts _ q1421), trivial⟩) (h_preS hGr hr hS _) rfl rfl hl.1 rfl (lv_room (Nat.le_of_ble_eq_true rfl)) dX6_number_57 ⟨(bud hc mm16 hmc hms).1, (bud hc mm16 hmc hms).2⟩) hS (fun rr uu H locs hw hr hS => ?_)
        obtain rfl : u16 = uu := (congrArg Prod.snd hw).symm
        obtain rfl : r16 = rr := (congrArg Prod.fst hw).symm
        refine lv_if_eq (tgt := 104) hx hb dX6_number_60 (by decide) (fun c17 => ?_) (fun c17 => ?_)
        · replace hF := it_t c17 hF
          refine lv_aload_n hx hb dX6_number_104 rfl (lv_at hl 0 rfl) ?_
          refine lv_iload hx hb dX6_number_105 (lv_at hl 4 rfl) ?_
          refine lv_i2l (v := (x4).toInt64) hx hb dX6_number_107 rfl ?_
          refine lv_iload_n hx hb dX6_number_108 rfl (lv_at hl 1 rfl) ?_
          refine lv_i2l (v := (x1).toInt64) hx hb dX6_number_109 rfl ?_
          refine lv_iload_n hx hb dX6_number_110 rfl (lv_at hl 2 rfl) ?_
          refine lv_i2l (v := (x2).toInt64) hx hb dX6_number_111 rfl ?_
          obtain ⟨r18, u18, e18, hF⟩ := bnd_s hF
          have mm18 : hle u18 out.2 := (show Mo u18 _ from mo_gI (fun x19_ => mo_gC (mo_bnx (moX6_require D.2 u18 b0 r18 ((-3) : Int32) x19_) hle_rf (fun r20 u20 m20 => mo_ret m20)))) _ hF
          obtain ⟨mc18, ms18, hmc18, hms18⟩ := up_of (moX1_inRange u16 ((x4).toInt64) ((x1).toInt64) ((x2).toInt64) _ e18)
          replace hc := cst_call hc hmc18 hms18
          refine h_calli (va_runSN (As := [.long ((x4).toInt64), .long ((x1).toInt64), .long ((x2).toInt64)]) (rest := [.ref b0]) ⟨hx, hb, hml, hown, hts⟩ (mgX1_inRange l D A u16 ((x4).toInt64) ((x1).toInt64) ((x2).toInt64) _ e18 mc18 ms18 hmc18 hms18) (⟨va_cnB 3 hts (lw_meth q1422) rfl rfl rfl (hGr.nw q1474 rfl) (hts _ q101) (by decide +kernel) ⟨Nat.le_of_ble_eq_true rfl, Nat.le_of_ble_eq_true rfl⟩, (hts _ q1421), trivial⟩) (h_preS hGr hr hS _) rfl rfl hl.1 rfl (lv_room (Nat.le_of_ble_eq_true rfl)) dX6_number_112 ⟨(bud hc mm18 hmc hms).1, (bud hc mm18 hmc hms).2⟩) hS (fun rr uu H locs hw hr hS => ?_)
          obtain rfl : u18 = uu := (congrArg Prod.snd hw).symm
          obtain rfl : r18 = rr := (congrArg Prod.fst hw).symm
          refine lv_bipush (v := (-3)) hx hb dX6_number_115 (by decide) ?_
          refine lv_aload_n hx hb dX6_number_117 rfl (lv_at hl 0 rfl) ?_
          obtain ⟨fs19, x19_, e19, f19, hF⟩ := gI_s hF
          refine h_get (C := RX6) (T := TX6) (N := 5) hx hb hts in_X6 hown hGr hr e19 (by decide) rfl 3 (by decide) (hts _ q1440) (fun _ h9 => h9) f19 dX6_number_118 ?_
          obtain ⟨fc20, ec20, hF⟩ := gC_s hF
          rcases bnx_s hF with ⟨r20, u20, e20, hF⟩ | ⟨q20, u20, e20, hF⟩
          rotate_left
          · obtain ⟨mc20, ms20, hmc20, hms20⟩ := up_of (moX6_require D.2 u18 b0 r18 ((-3) : Int32) x19_ _ e20)
            have hcx := cst_call hc hmc20 hms20
            have bx20 := bud_r hcx hF hmc hms
            refine h_xthrv rfl (vx_runV (As := [.int r18, .int (-3), .int x19_]) (rest := []) ⟨hx, hb, hml, hown, hts⟩ (mgX6_require l hl0 D A u18 b0 r18 ((-3) : Int32) x19_ _ e20 mc20 ms20 hmc20 hms20) (cwV 3 hts (lw_V q1485 q1487 qs30 q134 q1488) rfl rfl rfl (by decide +kernel) ⟨Nat.le_of_ble_eq_true rfl, Nat.le_of_ble_eq_true rfl⟩) (h_preV hGr hr hS ec20 (by decide) (q := (RX6, TX6, 5)) rfl _) rfl rfl hl.1 rfl (lv_room (Nat.le_of_ble_eq_true rfl)) dX6_number_121 ⟨bx20.1, bx20.2⟩) hS (fun E9 q9 u9 H locs ce9 e1 e2 e3 hr hS h1 h2 h3 => ?_)
            exact h_xpass hGr htb hlocks hF bx20 e1 e2 e3 hr hS h1 h2 h3
          have mm20 : hle u20 out.2 := (show Mo u20 _ from mo_ret hle_rf) _ hF
          obtain ⟨mc20, ms20, hmc20, hms20⟩ := up_of (moX6_require D.2 u18 b0 r18 ((-3) : Int32) x19_ _ e20)
          replace hc := cst_call hc hmc20 hms20
          refine h_xretv rfl (vx_runV (As := [.int r18, .int (-3), .int x19_]) (rest := []) ⟨hx, hb, hml, hown, hts⟩ (mgX6_require l hl0 D A u18 b0 r18 ((-3) : Int32) x19_ _ e20 mc20 ms20 hmc20 hms20) (cwV 3 hts (lw_V q1485 q1487 qs30 q134 q1488) rfl rfl rfl (by decide +kernel) ⟨Nat.le_of_ble_eq_true rfl, Nat.le_of_ble_eq_true rfl⟩) (h_preV hGr hr hS ec20 (by decide) (q := (RX6, TX6, 5)) rfl _) rfl rfl hl.1 rfl (lv_room (Nat.le_of_ble_eq_true rfl)) dX6_number_121 ⟨(bud hc mm20 hmc hms).1, (bud hc mm20 hmc hms).2⟩) hS (fun H locs hr hS => ?_)
          refine lv_iload hx hb dX6_number_124 (lv_at hl 4 rfl) ?_
          have bz := bud_r hc hF hmc hms
          refine vx_ret ?_
          refine W.widen (k := mc) (n := ms) bz.1 bz.2 ?_
          exact W.iret (v := x4) hx hb hret (fun t ht hWm => ⟨⟨x4, u20, rfl, Option.some.inj hF, h_end hGr hr hS ht hWm⟩, hS.F ht⟩) hS.2.2 dX6_number_126
        · replace hF := it_f c17 hF
          refine lv_ldc hx hb hown (hts _ q1528) dX6_number_63 ?_
          refine lv_bipush (v := 10) hx hb dX6_number_65 (by decide) ?_
          refine lv_iload hx hb dX6_number_67 (lv_at hl 4 rfl) ?_
          refine lv_imul hx hb dX6_number_69 ?_
          refine lv_aload_n hx hb dX6_number_70 rfl (lv_at hl 0 rfl) ?_
          obtain ⟨fs21, x21_, e21, f21, hF⟩ := gQ_s hF
          refine h_get (C := RX6) (T := TX6) (N := 5) hx hb hts in_X6 hown hGr hr e21 (by decide) rfl 4 (by decide) (hts _ q1441) (fun _ h9 => h9) f21 dX6_number_71 ?_
          obtain ⟨fs22, x22_, e22, f22, hF⟩ := gQ_s hF
          refine h_getN (C := RX1) (T := TX1) (N := 7) hx hb hts in_X1 hown hGr hr e22 (by decide) rfl 3 (by decide) (va_Nw.use rfl (hGr.nw q636 rfl)) (fun _ h9 => h9) f22 dX6_number_74 ?_
          refine lv_aload_n hx hb dX6_number_77 rfl (lv_at hl 0 rfl) ?_
          obtain ⟨fs23, x23_, e23, f23, hF⟩ := gI_s hF
          refine h_get (C := RX6) (T := TX6) (N := 5) hx hb hts in_X6 hown hGr hr e23 (by decide) rfl 2 (by decide) (hts _ q1439) (fun _ h9 => h9) f23 dX6_number_78 ?_
          obtain ⟨n24, f24, e24, g24, hF⟩ := aI_s hF
          obtain ⟨x24_, ex24⟩ : ∃ z, z = f24 (x23_).toNatClampNeg := ⟨_, rfl⟩
          rw [← ex24] at hF
          refine h_bald hx hb hGr hr 1 rfl e24 g24 dX6_number_81 ?_
          rw [← ex24]
          refine lv_iadd hx hb dX6_number_82 ?_
          refine lv_bipush (v := 48) hx hb dX6_number_83 (by decide) ?_
          refine lv_isub hx hb dX6_number_85 ?_
          have mm25 : hle u16 out.2 := (show Mo u16 _ from mo_gI (fun x26_ => mo_pV hle_rf (fun h27 m27 => mo_tr m27 (ml1 h27 b0 x1 x2 x3 (if (((10 * x4) + x24_) - 48) < (1000000 : Int32) then (((10 * x4) + x24_) - 48) else (1000000 : Int32)))))) _ hF
          refine va_mmin hx hb (by rw [hml]; exact hl.1.symm) hown (hts _ q1529) (hts _ q336) (hts _ q116) (hts _ q337) (Nat.le_of_ble_eq_true rfl) (Nat.le_of_ble_eq_true rfl) (bud hc mm25 hmc hms).1 (bud hc mm25 hmc hms).2 dX6_number_86 ?_
          refine lv_istore (lv' := [(4, .int (if (((10 * x4) + x24_) - 48) < (1000000 : Int32) then (((10 * x4) + x24_) - 48) else (1000000 : Int32))), (0, .ref b0), (1, .int x1), (2, .int x2), (3, .int x3)]) hx hb dX6_number_89 hl (by decide) rfl (fun ls hl => ?_)
          refine lv_aload_n hx hb dX6_number_91 rfl (lv_at hl 1 rfl) ?_
          refine lv_dup hx hb dX6_number_92 rfl ?_
          obtain ⟨fs26, x26_, e26, f26, hF⟩ := gI_s hF
          refine h_get (C := RX6) (T := TX6) (N := 5) hx hb hts in_X6 hown hGr hr e26 (by decide) rfl 2 (by decide) (hts _ q1439) (fun _ h9 => h9) f26 dX6_number_93 ?_
          refine lv_iconst (v := 1) hx hb dX6_number_96 (by decide) ?_
          refine lv_iadd hx hb dX6_number_97 ?_
          obtain ⟨fs27, e27, k27, lo27, hF⟩ := pV_s hF
          obtain ⟨h27, eh27⟩ : ∃ z, z = hPut u16 b0 (.inr (5, fs27.set 2 (.int (x26_ + 1)))) := ⟨_, rfl⟩
          rw [← eh27] at hF
          refine h_put (C := RX6) (T := TX6) (N := 5) hx hb hts in_X6 tyX6 tyX6_ok nmX6 hown hGr hr hS e27 (by decide) rfl 2 (by decide) (hts _ q1439) (fun _ h9 => h9) rfl (tyX6_ok 2 (by decide)) rfl rfl k27 lo27 dX6_number_98 (fun H locs hr hS => ?_)
          rw [← eh27] at hr
          replace hc := cst_put hc eh27
          refine lv_goto (tgt := 27) hx hb dX6_number_101 (by decide) ?_
          exact lp1 h27 b0 x1 x2 x3 (if (((10 * x4) + x24_) - 48) < (1000000 : Int32) then (((10 * x4) + x24_) - 48) else (1000000 : Int32)) hF _ _ _ _ hc hr hS ls (lv_sub hl [1, 2, 3, 4, 0] rfl)
  have lp1 := loop n
  have ml1 := moX6_number_r D.2 n
  have hc : cst h0 0 0 h := by rw [eh0]; exact cst_0
  unfold GX6_number GX6_number_0 at hF
  refine lv_aload_n hx hb dX6_number_0 rfl (lv_at hl 0 rfl) ?_
  obtain ⟨fc1, ec1, hF⟩ := gC_s hF
  obtain ⟨r1, u1, e1, hF⟩ := bnd_s hF
  have mm1 : hle u1 out.2 := (show Mo u1 _ from mo_gI (fun x2_ => mo_pV hle_rf (fun h3 m3 => mo_gI (fun x4_ => mo_gC (mo_bnx (moX6_require D.2 h3 a0 r1 ((-2) : Int32) x4_) m3 (fun r5 u5 m5 => mo_tr m5 (ml1 u5 a0 p1 p2 r1 (0 : Int32)))))))) _ hF
  obtain ⟨mc1, ms1, hmc1, hms1⟩ := up_of (moX6_isNumberNext n h a0 _ e1)
  replace hc := cst_call hc hmc1 hms1
  refine h_calli (va_runV (As := []) (rest := []) ⟨hx, hb, hml, hown, hts⟩ (mgX6_isNumberNext l D A h n a0 _ e1 mc1 ms1 hmc1 hms1) (cwV 0 hts (lw_V q1522 q1524 qs32 q134 q1525) rfl rfl rfl (by decide +kernel) ⟨Nat.le_of_ble_eq_true rfl, Nat.le_of_ble_eq_true rfl⟩) (h_preV hGr hr hS ec1 (by decide) (q := (RX6, TX6, 5)) rfl _) rfl rfl hl.1 rfl (lv_room (Nat.le_of_ble_eq_true rfl)) dX6_number_1 ⟨(bud hc mm1 hmc hms).1, (bud hc mm1 hmc hms).2⟩) hS (fun rr uu H locs hw hr hS => ?_)
  obtain rfl : u1 = uu := (congrArg Prod.snd hw).symm
  obtain rfl : r1 = rr := (congrArg Prod.fst hw).symm
  refine lv_istore_n (lv' := [(3, .int r1), (0, .ref a0), (1, .int p1), (2, .int p2)]) hx hb dX6_number_4 rfl hl (by decide) rfl (fun ls hl => ?_)
  refine lv_aload_n hx hb dX6_number_5 rfl (lv_at hl 1 rfl) ?_
  refine lv_aload_n hx hb dX6_number_6 rfl (lv_at hl 1 rfl) ?_
  obtain ⟨fs2, x2_, e2, f2, hF⟩ := gI_s hF
  refine h_get (C := RX6) (T := TX6) (N := 5) hx hb hts in_X6 hown hGr hr e2 (by decide) rfl 2 (by decide) (hts _ q1439) (fun _ h9 => h9) f2 dX6_number_7 ?_
  obtain ⟨fs3, e3, k3, lo3, hF⟩ := pV_s hF
  obtain ⟨h3, eh3⟩ : ∃ z, z = hPut u1 a0 (.inr (5, fs3.set 3 (.int x2_))) := ⟨_, rfl⟩
  rw [← eh3] at hF
  refine h_put (C := RX6) (T := TX6) (N := 5) hx hb hts in_X6 tyX6 tyX6_ok nmX6 hown hGr hr hS e3 (by decide) rfl 3 (by decide) (hts _ q1440) (fun _ h9 => h9) rfl (tyX6_ok 3 (by decide)) rfl rfl k3 lo3 dX6_number_10 (fun H locs hr hS => ?_)
  rw [← eh3] at hr
  replace hc := cst_put hc eh3
  refine lv_aload_n hx hb dX6_number_13 rfl (lv_at hl 1 rfl) ?_
  refine lv_iload_n hx hb dX6_number_14 rfl (lv_at hl 0 rfl) ?_
  refine lv_bipush (v := (-2)) hx hb dX6_number_15 (by decide) ?_
  refine lv_aload_n hx hb dX6_number_17 rfl (lv_at hl 1 rfl) ?_
  obtain ⟨fs4, x4_, e4, f4, hF⟩ := gI_s hF
  refine h_get (C := RX6) (T := TX6) (N := 5) hx hb hts in_X6 hown hGr hr e4 (by decide) rfl 3 (by decide) (hts _ q1440) (fun _ h9 => h9) f4 dX6_number_18 ?_
  obtain ⟨fc5, ec5, hF⟩ := gC_s hF
  rcases bnx_s hF with ⟨r5, u5, e5, hF⟩ | ⟨q5, u5, e5, hF⟩
  rotate_left
  · obtain ⟨mc5, ms5, hmc5, hms5⟩ := up_of (moX6_require D.2 h3 a0 r1 ((-2) : Int32) x4_ _ e5)
    have hcx := cst_call hc hmc5 hms5
    have bx5 := bud_r hcx hF hmc hms
    refine h_xthrv rfl (vx_runV (As := [.int r1, .int (-2), .int x4_]) (rest := []) ⟨hx, hb, hml, hown, hts⟩ (mgX6_require l hl0 D A h3 a0 r1 ((-2) : Int32) x4_ _ e5 mc5 ms5 hmc5 hms5) (cwV 3 hts (lw_V q1485 q1487 qs30 q134 q1488) rfl rfl rfl (by decide +kernel) ⟨Nat.le_of_ble_eq_true rfl, Nat.le_of_ble_eq_true rfl⟩) (h_preV hGr hr hS ec5 (by decide) (q := (RX6, TX6, 5)) rfl _) rfl rfl hl.1 rfl (lv_room (Nat.le_of_ble_eq_true rfl)) dX6_number_21 ⟨bx5.1, bx5.2⟩) hS (fun E9 q9 u9 H locs ce9 e1 e2 e3 hr hS h1 h2 h3 => ?_)
    exact h_xpass hGr htb hlocks hF bx5 e1 e2 e3 hr hS h1 h2 h3
  have mm5 : hle u5 out.2 := (show Mo u5 _ from mo_tr hle_rf (ml1 u5 a0 p1 p2 r1 (0 : Int32))) _ hF
  obtain ⟨mc5, ms5, hmc5, hms5⟩ := up_of (moX6_require D.2 h3 a0 r1 ((-2) : Int32) x4_ _ e5)
  replace hc := cst_call hc hmc5 hms5
  refine h_xretv rfl (vx_runV (As := [.int r1, .int (-2), .int x4_]) (rest := []) ⟨hx, hb, hml, hown, hts⟩ (mgX6_require l hl0 D A h3 a0 r1 ((-2) : Int32) x4_ _ e5 mc5 ms5 hmc5 hms5) (cwV 3 hts (lw_V q1485 q1487 qs30 q134 q1488) rfl rfl rfl (by decide +kernel) ⟨Nat.le_of_ble_eq_true rfl, Nat.le_of_ble_eq_true rfl⟩) (h_preV hGr hr hS ec5 (by decide) (q := (RX6, TX6, 5)) rfl _) rfl rfl hl.1 rfl (lv_room (Nat.le_of_ble_eq_true rfl)) dX6_number_21 ⟨(bud hc mm5 hmc hms).1, (bud hc mm5 hmc hms).2⟩) hS (fun H locs hr hS => ?_)
  refine lv_iconst (v := 0) hx hb dX6_number_24 (by decide) ?_
  refine lv_istore (lv' := [(4, .int 0), (3, .int r1), (0, .ref a0), (1, .int p1), (2, .int p2)]) hx hb dX6_number_25 hl (by decide) rfl (fun ls hl => ?_)
  exact lp1 u5 a0 p1 p2 r1 (0 : Int32) hF _ _ _ _ hc hr hS ls (lv_sub hl [2, 3, 4, 1, 0] rfl)

def GX6_word_1 (R : Nat → Hp → Nat → Nat → Int32 → Option (Nat × Hp)) (n : Nat) (h : Hp) (b0 : Nat) (b1 : Nat) (x2 : Int32) : Option (Nat × Hp) := gI h b0 5 0 (fun x5_ => if x5_ ≤ x2 then gC h b1 12 (bnd (GJ8_toString h b1) (fun r7 u7 => some (r7, u7))) else gQ h b0 5 4 (fun x8_ => gQ h x8_ 1 3 (fun x9_ => aI h x9_ 1 x2 (fun x10_ => bnd (GX1_inRange h ((x10_).toInt64) (97 : Int64) (122 : Int64)) (fun r11 u11 => if r11 = 0 then gC u11 b1 12 (bnd (GJ8_toString u11 b1) (fun r13 u13 => some (r13, u13))) else gQ u11 b0 5 4 (fun x14_ => gQ u11 x14_ 1 3 (fun x15_ => aI u11 x15_ 1 x2 (fun x16_ => gC u11 b1 12 (bnd (GJ8_append_3 u11 b1 (((x16_).toUInt32 % 65536).toInt32)) (fun r17 u17 => R 1 u17 b0 b1 (x2 + 1)))))))))))
def GX6_word_r : Nat → Nat → Hp → Nat → Nat → Int32 → Option (Nat × Hp)
  | 0 => fun _ _ _ _ _ => none
  | n + 1 => fun k => match k with  | _ => GX6_word_1 (GX6_word_r n) n
def GX6_word_0 (R : Nat → Hp → Nat → Nat → Int32 → Option (Nat × Hp)) (n : Nat) (h : Hp) (a0 : Nat) : Option (Nat × Hp) := nW h 12 [.null, .int 0, .int 0, .int 0] 4 (fun a1_ h1 => bnd (GJ8_init h1 a1_) (fun r2 u2 => gC u2 a0 5 (bnd (GX6_peek n u2 a0) (fun r3 u3 => gI u3 a0 5 2 (fun x4_ => R 1 u3 a0 a1_ x4_)))))
def GX6_word (n : Nat) (h : Hp) (a0 : Nat) : Option (Nat × Hp) := GX6_word_0 (GX6_word_r n) n h a0
theorem moX6_word_r (n : Nat) : (∀ (h : Hp) (b0 : Nat) (b1 : Nat) (x2 : Int32), Mo h (GX6_word_r n 1 h b0 b1 x2)) := by
  induction n with
  | zero => exact (fun _ _ _ _ => mo_no)
  | succ n ih =>
    have ml1 := ih
    exact (fun h b0 b1 x2 => show Mo h (GX6_word_1 (GX6_word_r n) n h b0 b1 x2) from by unfold GX6_word_1; exact mo_gI (fun x5_ => mo_ite (mo_gC (mo_bnd (moJ8_toString h b1) hle_rf (fun r7 u7 m7 => mo_ret m7))) (mo_gQ (fun x8_ => mo_gQ (fun x9_ => mo_aI (fun x10_ => mo_bnd (moX1_inRange h ((x10_).toInt64) (97 : Int64) (122 : Int64)) hle_rf (fun r11 u11 m11 => mo_ite (mo_gC (mo_bnd (moJ8_toString u11 b1) m11 (fun r13 u13 m13 => mo_ret m13))) (mo_gQ (fun x14_ => mo_gQ (fun x15_ => mo_aI (fun x16_ => mo_gC (mo_bnd (moJ8_append_3 u11 b1 (((x16_).toUInt32 % 65536).toInt32)) m11 (fun r17 u17 m17 => mo_tr m17 (ml1 u17 b0 b1 (x2 + 1)))))))))))))))
theorem moX6_word (n : Nat) (h : Hp) (a0 : Nat) : Mo h (GX6_word n h a0) := by
  have ml1 := moX6_word_r n
  unfold GX6_word GX6_word_0
  exact mo_nW hle_rf (fun a1_ h1 m1 => mo_bnd (moJ8_init h1 a1_) m1 (fun r2 u2 m2 => mo_gC (mo_bnd (moX6_peek n u2 a0) m2 (fun r3 u3 m3 => mo_gI (fun x4_ => mo_tr m3 (ml1 u3 a0 a1_ x4_))))))
set_option maxHeartbeats 4000000 in
set_option maxRecDepth 100000 in
theorem mgX6_word (l : Launch) (D : HD) (A : Nat → Prop) (h : Hp) (n : Nat) (a0 : Nat) (out : Nat × Hp) (hF : GX6_word n h a0 = some out) (mc ms : Nat) (hmc : hCc out.2 = hCc h + mc) (hms : hSl out.2 = hSl h + ms) : Met l yX6_word (ws_ yX6_word cX6_word 3 (some (.object "java/lang/String"))) ({ frames := 6, cells := mc, slots := ms, locals := 191 }) (va_Pc [.ref a0] (hW D A h)) (va_Qr (fun _ : Hp => True) (fun u r t => (r, u) = out ∧ hW D A u t) A) mc ms A := by
  refine Met.ofW (cc := cX6_word) (maxL := 3) (ret := (some (.object "java/lang/String"))) (by decide +kernel) rfl ?_
  intro p e s m args below meth c s₁ B hml hv
  obtain ⟨rfl, hr, hGr⟩ := hv
  have hx := B.exec
  have hb := B.bytes
  have hret := B.returns
  have hts := atoms_spec (ws := (ws_ yX6_word cX6_word 3 (some (.object "java/lang/String")))) B.pre
  have hts : ∀ w ∈ lw_all, w.before _ s = true := fun w h => hts w (List.mem_cons_of_mem _ h)
  have hown : s.vm.findClass RX6 = some m.cls := findClass_of_methodNamed B.named
  have hlocks := B.notSynchronized
  have hS : va_S A s.heap s.heap [] := va_S.rf
  have hc : cst h 0 0 h := cst_0
  have hl := lv_entry ([.ref a0]) (n := 3) (Nat.le_of_ble_eq_true rfl)
  rw [lg_entry_eq]
  generalize (lg_sl ([.ref a0]) ++ List.replicate (3 - (lg_sl ([.ref a0])).length) Slot.unset).toArray = ls at hl ⊢
  have hl : lv_has ls 3 [(0, .ref a0)] := hl
  obtain ⟨h0, eh0⟩ : ∃ z, z = h := ⟨_, rfl⟩
  rw [← eh0] at hmc hms
  have loop : ∀ n : Nat, (∀ (h : Hp) (b0 : Nat) (b1 : Nat) (x2 : Int32), GX6_word_r n 1 h b0 b1 x2 = some out → ∀ (H : Heap) (locs : List Loc) (cells slots : Nat), cst h0 cells slots h → hR D A h H → va_S A s.heap H locs → ∀ ls : Array Slot, lv_has ls 3 [(0, .ref b0), (1, .ref b1), (2, .int x2)] → W p l e (headSpec (ws_ yX6_word cX6_word 3 (some (.object "java/lang/String"))) ({ frames := 6, cells := mc, slots := ms, locals := 191 })).room s m ([.ref a0] : List Value).toArray below meth c H locs cells slots (MQ below (va_Qr (fun _ : Hp => True) (fun u r t => (r, u) = out ∧ hW D A u t) A) ([.ref a0] : List Value).toArray s mc ms A) (F0 m 18 ls [])) := by
    intro n
    induction n with
    | zero => exact (fun _ _ _ _ h => nomatch h)
    | succ n ih =>
      have lp1 := ih
      have ml1 := moX6_word_r n
      intro h b0 b1 x2 hF H locs cells slots hc hr hS ls hl
      replace hF : GX6_word_1 (GX6_word_r n) n h b0 b1 x2 = some out := hF
      unfold GX6_word_1 at hF
      refine lv_iload_n hx hb dX6_word_18 rfl (lv_at hl 2 rfl) ?_
      refine lv_aload_n hx hb dX6_word_19 rfl (lv_at hl 0 rfl) ?_
      obtain ⟨fs5, x5_, e5, f5, hF⟩ := gI_s hF
      refine h_get (C := RX6) (T := TX6) (N := 5) hx hb hts in_X6 hown hGr hr e5 (by decide) rfl 0 (by decide) (hts _ q1437) (fun _ h9 => h9) f5 dX6_word_20 ?_
      refine lv_icmp_ge (tgt := 69) hx hb dX6_word_23 (by decide) (fun c6 => ?_) (fun c6 => ?_)
      · replace hF := it_t c6 hF
        refine lv_aload_n hx hb dX6_word_69 rfl (lv_at hl 1 rfl) ?_
        obtain ⟨fc7, ec7, hF⟩ := gC_s hF
        obtain ⟨r7, u7, e7, hF⟩ := bnd_s hF
        have mm7 : hle u7 out.2 := (show Mo u7 _ from mo_ret hle_rf) _ hF
        obtain ⟨mc7, ms7, hmc7, hms7⟩ := up_of (moJ8_toString h b1 _ e7)
        replace hc := cst_call hc hmc7 hms7
        refine h_callr (va_runV (As := []) (rest := []) ⟨hx, hb, hml, hown, hts⟩ (mgJ8_toString l D A h b1 _ e7 mc7 ms7 hmc7 hms7) (cwV 0 hts (lw_V q1476 q441 q442 q112 q443) rfl rfl rfl (by decide +kernel) ⟨Nat.le_of_ble_eq_true rfl, Nat.le_of_ble_eq_true rfl⟩) (h_preV hGr hr hS ec7 (by decide) (q := (RJ8, TJ8, 4)) rfl _) rfl rfl hl.1 rfl (lv_room (Nat.le_of_ble_eq_true rfl)) dX6_word_70 ⟨(bud hc mm7 hmc hms).1, (bud hc mm7 hmc hms).2⟩) hS (fun rr uu H locs hw hr hS => ?_)
        obtain rfl : u7 = uu := (congrArg Prod.snd hw).symm
        obtain rfl : r7 = rr := (congrArg Prod.fst hw).symm
        have bz := bud_r hc hF hmc hms
        refine W.widen (k := mc) (n := ms) bz.1 bz.2 ?_
        exact W.aret (v := .ref r7) hx hb hret (Or.inl ⟨_, rfl⟩) (Or.inr ⟨_, rfl⟩) (fun t ht hWm => ⟨⟨u7, r7, rfl, trivial, Option.some.inj hF, h_end hGr hr hS ht hWm⟩, hS.F ht⟩) hS.2.2 dX6_word_73
      · replace hF := it_f c6 hF
        refine lv_aload_n hx hb dX6_word_26 rfl (lv_at hl 0 rfl) ?_
        obtain ⟨fs8, x8_, e8, f8, hF⟩ := gQ_s hF
        refine h_get (C := RX6) (T := TX6) (N := 5) hx hb hts in_X6 hown hGr hr e8 (by decide) rfl 4 (by decide) (hts _ q1441) (fun _ h9 => h9) f8 dX6_word_27 ?_
        obtain ⟨fs9, x9_, e9, f9, hF⟩ := gQ_s hF
        refine h_getN (C := RX1) (T := TX1) (N := 7) hx hb hts in_X1 hown hGr hr e9 (by decide) rfl 3 (by decide) (va_Nw.use rfl (hGr.nw q636 rfl)) (fun _ h9 => h9) f9 dX6_word_30 ?_
        refine lv_iload_n hx hb dX6_word_33 rfl (lv_at hl 2 rfl) ?_
        obtain ⟨n10, f10, e10, g10, hF⟩ := aI_s hF
        obtain ⟨x10_, ex10⟩ : ∃ z, z = f10 (x2).toNatClampNeg := ⟨_, rfl⟩
        rw [← ex10] at hF
        refine h_bald hx hb hGr hr 1 rfl e10 g10 dX6_word_34 ?_
        rw [← ex10]
        refine lv_i2l (v := (x10_).toInt64) hx hb dX6_word_35 rfl ?_
        refine lv_ldc2 hx hb hown (hts _ q1472) dX6_word_36 ?_
        refine lv_ldc2 hx hb hown (hts _ q1473) dX6_word_39 ?_
        obtain ⟨r11, u11, e11, hF⟩ := bnd_s hF
        have mm11 : hle u11 out.2 := (show Mo u11 _ from mo_ite (mo_gC (mo_bnd (moJ8_toString u11 b1) hle_rf (fun r13 u13 m13 => mo_ret m13))) (mo_gQ (fun x14_ => mo_gQ (fun x15_ => mo_aI (fun x16_ => mo_gC (mo_bnd (moJ8_append_3 u11 b1 (((x16_).toUInt32 % 65536).toInt32)) hle_rf (fun r17 u17 m17 => mo_tr m17 (ml1 u17 b0 b1 (x2 + 1))))))))) _ hF
        obtain ⟨mc11, ms11, hmc11, hms11⟩ := up_of (moX1_inRange h ((x10_).toInt64) (97 : Int64) (122 : Int64) _ e11)
        replace hc := cst_call hc hmc11 hms11
        refine h_calli (va_runSN (As := [.long ((x10_).toInt64), .long (97 : Int64), .long (122 : Int64)]) (rest := []) ⟨hx, hb, hml, hown, hts⟩ (mgX1_inRange l D A h ((x10_).toInt64) (97 : Int64) (122 : Int64) _ e11 mc11 ms11 hmc11 hms11) (⟨va_cnB 3 hts (lw_meth q1422) rfl rfl rfl (hGr.nw q1474 rfl) (hts _ q101) (by decide +kernel) ⟨Nat.le_of_ble_eq_true rfl, Nat.le_of_ble_eq_true rfl⟩, (hts _ q1421), trivial⟩) (h_preS hGr hr hS _) rfl rfl hl.1 rfl (lv_room (Nat.le_of_ble_eq_true rfl)) dX6_word_42 ⟨(bud hc mm11 hmc hms).1, (bud hc mm11 hmc hms).2⟩) hS (fun rr uu H locs hw hr hS => ?_)
        obtain rfl : u11 = uu := (congrArg Prod.snd hw).symm
        obtain rfl : r11 = rr := (congrArg Prod.fst hw).symm
        refine lv_if_eq (tgt := 69) hx hb dX6_word_45 (by decide) (fun c12 => ?_) (fun c12 => ?_)
        · replace hF := it_t c12 hF
          refine lv_aload_n hx hb dX6_word_69 rfl (lv_at hl 1 rfl) ?_
          obtain ⟨fc13, ec13, hF⟩ := gC_s hF
          obtain ⟨r13, u13, e13, hF⟩ := bnd_s hF
          have mm13 : hle u13 out.2 := (show Mo u13 _ from mo_ret hle_rf) _ hF
          obtain ⟨mc13, ms13, hmc13, hms13⟩ := up_of (moJ8_toString u11 b1 _ e13)
          replace hc := cst_call hc hmc13 hms13
          refine h_callr (va_runV (As := []) (rest := []) ⟨hx, hb, hml, hown, hts⟩ (mgJ8_toString l D A u11 b1 _ e13 mc13 ms13 hmc13 hms13) (cwV 0 hts (lw_V q1476 q441 q442 q112 q443) rfl rfl rfl (by decide +kernel) ⟨Nat.le_of_ble_eq_true rfl, Nat.le_of_ble_eq_true rfl⟩) (h_preV hGr hr hS ec13 (by decide) (q := (RJ8, TJ8, 4)) rfl _) rfl rfl hl.1 rfl (lv_room (Nat.le_of_ble_eq_true rfl)) dX6_word_70 ⟨(bud hc mm13 hmc hms).1, (bud hc mm13 hmc hms).2⟩) hS (fun rr uu H locs hw hr hS => ?_)
          obtain rfl : u13 = uu := (congrArg Prod.snd hw).symm
          obtain rfl : r13 = rr := (congrArg Prod.fst hw).symm
          have bz := bud_r hc hF hmc hms
          refine W.widen (k := mc) (n := ms) bz.1 bz.2 ?_
          exact W.aret (v := .ref r13) hx hb hret (Or.inl ⟨_, rfl⟩) (Or.inr ⟨_, rfl⟩) (fun t ht hWm => ⟨⟨u13, r13, rfl, trivial, Option.some.inj hF, h_end hGr hr hS ht hWm⟩, hS.F ht⟩) hS.2.2 dX6_word_73
        · replace hF := it_f c12 hF
          refine lv_aload_n hx hb dX6_word_48 rfl (lv_at hl 1 rfl) ?_
          refine lv_aload_n hx hb dX6_word_49 rfl (lv_at hl 0 rfl) ?_
          obtain ⟨fs14, x14_, e14, f14, hF⟩ := gQ_s hF
          refine h_get (C := RX6) (T := TX6) (N := 5) hx hb hts in_X6 hown hGr hr e14 (by decide) rfl 4 (by decide) (hts _ q1441) (fun _ h9 => h9) f14 dX6_word_50 ?_
          obtain ⟨fs15, x15_, e15, f15, hF⟩ := gQ_s hF
          refine h_getN (C := RX1) (T := TX1) (N := 7) hx hb hts in_X1 hown hGr hr e15 (by decide) rfl 3 (by decide) (va_Nw.use rfl (hGr.nw q636 rfl)) (fun _ h9 => h9) f15 dX6_word_53 ?_
          refine lv_iload_n hx hb dX6_word_56 rfl (lv_at hl 2 rfl) ?_
          obtain ⟨n16, f16, e16, g16, hF⟩ := aI_s hF
          obtain ⟨x16_, ex16⟩ : ∃ z, z = f16 (x2).toNatClampNeg := ⟨_, rfl⟩
          rw [← ex16] at hF
          refine h_bald hx hb hGr hr 1 rfl e16 g16 dX6_word_57 ?_
          rw [← ex16]
          refine lv_i2c (v := ((x16_).toUInt32 % 65536).toInt32) hx hb dX6_word_58 rfl ?_
          obtain ⟨fc17, ec17, hF⟩ := gC_s hF
          obtain ⟨r17, u17, e17, hF⟩ := bnd_s hF
          have mm17 : hle u17 out.2 := (show Mo u17 _ from mo_tr hle_rf (ml1 u17 b0 b1 (x2 + 1))) _ hF
          obtain ⟨mc17, ms17, hmc17, hms17⟩ := up_of (moJ8_append_3 u11 b1 (((x16_).toUInt32 % 65536).toInt32) _ e17)
          replace hc := cst_call hc hmc17 hms17
          refine h_callr (va_runV (As := [.int (((x16_).toUInt32 % 65536).toInt32)]) (rest := []) ⟨hx, hb, hml, hown, hts⟩ (mgJ8_append_3 l D A u11 b1 (((x16_).toUInt32 % 65536).toInt32) _ e17 mc17 ms17 hmc17 hms17) (cwV 1 hts (lw_V q1475 q1279 q1280 q112 q1281) rfl rfl rfl (by decide +kernel) ⟨Nat.le_of_ble_eq_true rfl, Nat.le_of_ble_eq_true rfl⟩) (h_preV hGr hr hS ec17 (by decide) (q := (RJ8, TJ8, 4)) rfl _) rfl rfl hl.1 rfl (lv_room (Nat.le_of_ble_eq_true rfl)) dX6_word_59 ⟨(bud hc mm17 hmc hms).1, (bud hc mm17 hmc hms).2⟩) hS (fun rr uu H locs hw hr hS => ?_)
          obtain rfl : u17 = uu := (congrArg Prod.snd hw).symm
          obtain rfl : r17 = rr := (congrArg Prod.fst hw).symm
          refine lv_pop hx hb dX6_word_62 rfl ?_
          refine lv_iinc (v := (x2 + 1)) (lv' := [(2, .int (x2 + 1)), (0, .ref b0), (1, .ref b1)]) hx hb dX6_word_63 hl (k := 2) rfl rfl (by decide) rfl (fun ls hl => ?_)
          refine lv_goto (tgt := 18) hx hb dX6_word_66 (by decide) ?_
          exact lp1 u17 b0 b1 (x2 + 1) hF _ _ _ _ hc hr hS ls (lv_sub hl [1, 2, 0] rfl)
  have lp1 := loop n
  have ml1 := moX6_word_r n
  have hc : cst h0 0 0 h := by rw [eh0]; exact cst_0
  unfold GX6_word GX6_word_0 at hF
  obtain ⟨a1_, h1, ea1, eh1, hF⟩ := nW_s hF
  have mm1 : hle h1 out.2 := (show Mo h1 _ from mo_bnd (moJ8_init h1 a1_) hle_rf (fun r2 u2 m2 => mo_gC (mo_bnd (moX6_peek n u2 a0) m2 (fun r3 u3 m3 => mo_gI (fun x4_ => mo_tr m3 (ml1 u3 a0 a1_ x4_)))))) _ hF
  replace hc := cst_new hc eh1
  refine h_new (C := RJ8) (T := TJ8) (N := 4) hx hb hts in_J8 tyJ8 tyJ8_ok hown (hts _ q1466) (hts _ q262) (hts _ q112) hGr hr hS (ci := 12) (by decide) rfl (fs := [.null, .int 0, .int 0, .int 0]) (fun j hj => by match j, hj with | 0, _ => rfl | 1, _ => rfl | 2, _ => rfl | 3, _ => rfl | j + 4, hj => omega) (bud hc mm1 hmc hms).1 (bud hc mm1 hmc hms).2 dX6_word_0 (fun H hr hS => ?_)
  rw [← eh1] at hr
  rw [← ea1]
  refine lv_dup hx hb dX6_word_3 rfl ?_
  obtain ⟨r2, u2, e2, hF⟩ := bnd_s hF
  have mm2 : hle u2 out.2 := (show Mo u2 _ from mo_gC (mo_bnd (moX6_peek n u2 a0) hle_rf (fun r3 u3 m3 => mo_gI (fun x4_ => mo_tr m3 (ml1 u3 a0 a1_ x4_))))) _ hF
  obtain ⟨mc2, ms2, hmc2, hms2⟩ := up_of (moJ8_init h1 a1_ _ e2)
  replace hc := cst_call hc hmc2 hms2
  refine h_callv (va_runI (As := []) (rest := [.ref a1_]) ⟨hx, hb, hml, hown, hts⟩ (mgJ8_init l D A h1 a1_ _ e2 mc2 ms2 hmc2 hms2) (cwI 0 hts (lw_meth q265) rfl rfl rfl (hts _ q112) (hts _ q1467) (hts _ q264) rfl (by decide +kernel) ⟨Nat.le_of_ble_eq_true rfl, Nat.le_of_ble_eq_true rfl⟩) (h_preS hGr hr hS _) rfl rfl hl.1 rfl (lv_room (Nat.le_of_ble_eq_true rfl)) dX6_word_4 ⟨(bud hc mm2 hmc hms).1, (bud hc mm2 hmc hms).2⟩) hS (fun uu H locs hw hr hS => ?_)
  obtain rfl : u2 = uu := (congrArg Prod.snd hw).symm
  refine lv_astore_n (lv' := [(1, .ref a1_), (0, .ref a0)]) hx hb dX6_word_7 rfl hl (by decide) rfl (fun ls hl => ?_)
  refine lv_aload_n hx hb dX6_word_8 rfl (lv_at hl 1 rfl) ?_
  obtain ⟨fc3, ec3, hF⟩ := gC_s hF
  obtain ⟨r3, u3, e3, hF⟩ := bnd_s hF
  have mm3 : hle u3 out.2 := (show Mo u3 _ from mo_gI (fun x4_ => mo_tr hle_rf (ml1 u3 a0 a1_ x4_))) _ hF
  obtain ⟨mc3, ms3, hmc3, hms3⟩ := up_of (moX6_peek n u2 a0 _ e3)
  replace hc := cst_call hc hmc3 hms3
  refine h_calli (va_runV (As := []) (rest := []) ⟨hx, hb, hml, hown, hts⟩ (mgX6_peek l D A u2 n a0 _ e3 mc3 ms3 hmc3 hms3) (cwV 0 hts (lw_V q1468 q1470 qs29 q134 q1471) rfl rfl rfl (by decide +kernel) ⟨Nat.le_of_ble_eq_true rfl, Nat.le_of_ble_eq_true rfl⟩) (h_preV hGr hr hS ec3 (by decide) (q := (RX6, TX6, 5)) rfl _) rfl rfl hl.1 rfl (lv_room (Nat.le_of_ble_eq_true rfl)) dX6_word_9 ⟨(bud hc mm3 hmc hms).1, (bud hc mm3 hmc hms).2⟩) hS (fun rr uu H locs hw hr hS => ?_)
  obtain rfl : u3 = uu := (congrArg Prod.snd hw).symm
  obtain rfl : r3 = rr := (congrArg Prod.fst hw).symm
  refine lv_pop hx hb dX6_word_12 rfl ?_
  refine lv_aload_n hx hb dX6_word_13 rfl (lv_at hl 1 rfl) ?_
  obtain ⟨fs4, x4_, e4, f4, hF⟩ := gI_s hF
  refine h_get (C := RX6) (T := TX6) (N := 5) hx hb hts in_X6 hown hGr hr e4 (by decide) rfl 2 (by decide) (hts _ q1439) (fun _ h9 => h9) f4 dX6_word_14 ?_
  refine lv_istore_n (lv' := [(2, .int x4_), (1, .ref a1_), (0, .ref a0)]) hx hb dX6_word_17 rfl hl (by decide) rfl (fun ls hl => ?_)
  exact lp1 u3 a0 a1_ x4_ hF _ _ _ _ hc hr hS ls (lv_sub hl [2, 1, 0] rfl)

def GX6_keyword (kz : Nat → Nat) (n : Nat) (h : Hp) (a0 : Nat) (a1 : Nat) : Option ((Int32 ⊕ Xq) × Hp) := gC h a0 5 (bnd (GX6_word n h a0) (fun r1 u1 => gC u1 r1 13 (bnd (GJ9_equals n u1 r1 a1) (fun r2 u2 => gI u2 a0 5 2 (fun x3_ => gC u2 a0 5 (bnx (GX6_require kz u2 a0 r2 ((-2) : Int32) x3_) (fun r4 u4 => gI u4 a0 5 2 (fun x5_ => gC u4 r1 13 (bnd (GJ9_length u4 r1) (fun r6 u6 => pV u6 a0 5 2 (.int (x5_ + r6)) (fun h7 => some (.inl 0, h7))))))))))))
theorem moX6_keyword (kz : Nat → Nat) (n : Nat) (h : Hp) (a0 : Nat) (a1 : Nat) : Mo h (GX6_keyword kz n h a0 a1) := by
  unfold GX6_keyword
  exact mo_gC (mo_bnd (moX6_word n h a0) hle_rf (fun r1 u1 m1 => mo_gC (mo_bnd (moJ9_equals n u1 r1 a1) m1 (fun r2 u2 m2 => mo_gI (fun x3_ => mo_gC (mo_bnx (moX6_require kz u2 a0 r2 ((-2) : Int32) x3_) m2 (fun r4 u4 m4 => mo_gI (fun x5_ => mo_gC (mo_bnd (moJ9_length u4 r1) m4 (fun r6 u6 m6 => mo_pV m6 (fun h7 m7 => mo_ret m7)))))))))))
set_option maxHeartbeats 4000000 in
set_option maxRecDepth 100000 in
theorem mgX6_keyword (l : Launch) (hl0 : l.stackTraces = false) (D : HD) (A : Nat → Prop) (h : Hp) (n : Nat) (a0 : Nat) (a1 : Nat) (out : (Int32 ⊕ Xq) × Hp) (hF : GX6_keyword D.2 n h a0 a1 = some out) (mc ms : Nat) (hmc : hCc out.2 = hCc h + mc) (hms : hSl out.2 = hSl h + ms) : vx_Met l yX6_keyword (ws_ yX6_keyword cX6_keyword 3 none) ({ frames := 7, cells := mc, slots := ms, locals := 213 }) (va_Pc [.ref a0, .ref a1] (hW D A h)) (va_Qv (fun u => ((.inl 0 : Int32 ⊕ Xq), u) = out) (hW D A) A) (xC D A out) mc ms A := by
  refine vx_ofW (cc := cX6_keyword) (maxL := 3) (ret := none) (by decide +kernel) rfl ?_
  intro p e s m args below meth c s₁ B hml htb hv
  obtain ⟨rfl, hr, hGr⟩ := hv
  have hx := B.exec
  have hb := B.bytes
  have hret := B.returns
  have hts := atoms_spec (ws := (ws_ yX6_keyword cX6_keyword 3 none)) B.pre
  have hts : ∀ w ∈ lw_all, w.before _ s = true := fun w h => hts w (List.mem_cons_of_mem _ h)
  have hown : s.vm.findClass RX6 = some m.cls := findClass_of_methodNamed B.named
  have hlocks := B.notSynchronized
  have hS : va_S A s.heap s.heap [] := va_S.rf
  have hc : cst h 0 0 h := cst_0
  have hl := lv_entry ([.ref a0, .ref a1]) (n := 3) (Nat.le_of_ble_eq_true rfl)
  rw [lg_entry_eq]
  generalize (lg_sl ([.ref a0, .ref a1]) ++ List.replicate (3 - (lg_sl ([.ref a0, .ref a1])).length) Slot.unset).toArray = ls at hl ⊢
  have hl : lv_has ls 3 [(0, .ref a0), (1, .ref a1)] := hl
  unfold GX6_keyword at hF
  refine lv_aload_n hx hb dX6_keyword_0 rfl (lv_at hl 0 rfl) ?_
  obtain ⟨fc1, ec1, hF⟩ := gC_s hF
  obtain ⟨r1, u1, e1, hF⟩ := bnd_s hF
  have mm1 : hle u1 out.2 := (show Mo u1 _ from mo_gC (mo_bnd (moJ9_equals n u1 r1 a1) hle_rf (fun r2 u2 m2 => mo_gI (fun x3_ => mo_gC (mo_bnx (moX6_require D.2 u2 a0 r2 ((-2) : Int32) x3_) m2 (fun r4 u4 m4 => mo_gI (fun x5_ => mo_gC (mo_bnd (moJ9_length u4 r1) m4 (fun r6 u6 m6 => mo_pV m6 (fun h7 m7 => mo_ret m7)))))))))) _ hF
  obtain ⟨mc1, ms1, hmc1, hms1⟩ := up_of (moX6_word n h a0 _ e1)
  replace hc := cst_call hc hmc1 hms1
  refine h_callr (va_runV (As := []) (rest := []) ⟨hx, hb, hml, hown, hts⟩ (mgX6_word l D A h n a0 _ e1 mc1 ms1 hmc1 hms1) (cwV 0 hts (lw_V q1462 q1464 qs28 q134 q1465) rfl rfl rfl (by decide +kernel) ⟨Nat.le_of_ble_eq_true rfl, Nat.le_of_ble_eq_true rfl⟩) (h_preV hGr hr hS ec1 (by decide) (q := (RX6, TX6, 5)) rfl _) rfl rfl hl.1 rfl (lv_room (Nat.le_of_ble_eq_true rfl)) dX6_keyword_1 ⟨(bud hc mm1 hmc hms).1, (bud hc mm1 hmc hms).2⟩) hS (fun rr uu H locs hw hr hS => ?_)
  obtain rfl : u1 = uu := (congrArg Prod.snd hw).symm
  obtain rfl : r1 = rr := (congrArg Prod.fst hw).symm
  refine lv_astore_n (lv' := [(2, .ref r1), (0, .ref a0), (1, .ref a1)]) hx hb dX6_keyword_4 rfl hl (by decide) rfl (fun ls hl => ?_)
  refine lv_aload_n hx hb dX6_keyword_5 rfl (lv_at hl 1 rfl) ?_
  refine lv_aload_n hx hb dX6_keyword_6 rfl (lv_at hl 0 rfl) ?_
  refine lv_aload_n hx hb dX6_keyword_7 rfl (lv_at hl 2 rfl) ?_
  obtain ⟨fc2, ec2, hF⟩ := gC_s hF
  obtain ⟨r2, u2, e2, hF⟩ := bnd_s hF
  have mm2 : hle u2 out.2 := (show Mo u2 _ from mo_gI (fun x3_ => mo_gC (mo_bnx (moX6_require D.2 u2 a0 r2 ((-2) : Int32) x3_) hle_rf (fun r4 u4 m4 => mo_gI (fun x5_ => mo_gC (mo_bnd (moJ9_length u4 r1) m4 (fun r6 u6 m6 => mo_pV m6 (fun h7 m7 => mo_ret m7)))))))) _ hF
  obtain ⟨mc2, ms2, hmc2, hms2⟩ := up_of (moJ9_equals n u1 r1 a1 _ e2)
  replace hc := cst_call hc hmc2 hms2
  refine h_calli (va_runV (As := [.ref a1]) (rest := [.ref a0]) ⟨hx, hb, hml, hown, hts⟩ (mgJ9_equals l D A u1 n r1 a1 _ e2 mc2 ms2 hmc2 hms2) (cwV 1 hts (lw_V q1477 q1478 q1479 q113 q1480) rfl rfl rfl (by decide +kernel) ⟨Nat.le_of_ble_eq_true rfl, Nat.le_of_ble_eq_true rfl⟩) (h_preV hGr hr hS ec2 (by decide) (q := (RJ9, TJ9, 4)) rfl _) rfl rfl hl.1 rfl (lv_room (Nat.le_of_ble_eq_true rfl)) dX6_keyword_8 ⟨(bud hc mm2 hmc hms).1, (bud hc mm2 hmc hms).2⟩) hS (fun rr uu H locs hw hr hS => ?_)
  obtain rfl : u2 = uu := (congrArg Prod.snd hw).symm
  obtain rfl : r2 = rr := (congrArg Prod.fst hw).symm
  refine lv_bipush (v := (-2)) hx hb dX6_keyword_11 (by decide) ?_
  refine lv_aload_n hx hb dX6_keyword_13 rfl (lv_at hl 1 rfl) ?_
  obtain ⟨fs3, x3_, e3, f3, hF⟩ := gI_s hF
  refine h_get (C := RX6) (T := TX6) (N := 5) hx hb hts in_X6 hown hGr hr e3 (by decide) rfl 2 (by decide) (hts _ q1439) (fun _ h9 => h9) f3 dX6_keyword_14 ?_
  obtain ⟨fc4, ec4, hF⟩ := gC_s hF
  rcases bnx_s hF with ⟨r4, u4, e4, hF⟩ | ⟨q4, u4, e4, hF⟩
  rotate_left
  · obtain ⟨mc4, ms4, hmc4, hms4⟩ := up_of (moX6_require D.2 u2 a0 r2 ((-2) : Int32) x3_ _ e4)
    have hcx := cst_call hc hmc4 hms4
    have bx4 := bud_r hcx hF hmc hms
    refine h_xthrv rfl (vx_runV (As := [.int r2, .int (-2), .int x3_]) (rest := []) ⟨hx, hb, hml, hown, hts⟩ (mgX6_require l hl0 D A u2 a0 r2 ((-2) : Int32) x3_ _ e4 mc4 ms4 hmc4 hms4) (cwV 3 hts (lw_V q1485 q1487 qs30 q134 q1488) rfl rfl rfl (by decide +kernel) ⟨Nat.le_of_ble_eq_true rfl, Nat.le_of_ble_eq_true rfl⟩) (h_preV hGr hr hS ec4 (by decide) (q := (RX6, TX6, 5)) rfl _) rfl rfl hl.1 rfl (lv_room (Nat.le_of_ble_eq_true rfl)) dX6_keyword_17 ⟨bx4.1, bx4.2⟩) hS (fun E9 q9 u9 H locs ce9 e1 e2 e3 hr hS h1 h2 h3 => ?_)
    exact h_xpass hGr htb hlocks hF bx4 e1 e2 e3 hr hS h1 h2 h3
  have mm4 : hle u4 out.2 := (show Mo u4 _ from mo_gI (fun x5_ => mo_gC (mo_bnd (moJ9_length u4 r1) hle_rf (fun r6 u6 m6 => mo_pV m6 (fun h7 m7 => mo_ret m7))))) _ hF
  obtain ⟨mc4, ms4, hmc4, hms4⟩ := up_of (moX6_require D.2 u2 a0 r2 ((-2) : Int32) x3_ _ e4)
  replace hc := cst_call hc hmc4 hms4
  refine h_xretv rfl (vx_runV (As := [.int r2, .int (-2), .int x3_]) (rest := []) ⟨hx, hb, hml, hown, hts⟩ (mgX6_require l hl0 D A u2 a0 r2 ((-2) : Int32) x3_ _ e4 mc4 ms4 hmc4 hms4) (cwV 3 hts (lw_V q1485 q1487 qs30 q134 q1488) rfl rfl rfl (by decide +kernel) ⟨Nat.le_of_ble_eq_true rfl, Nat.le_of_ble_eq_true rfl⟩) (h_preV hGr hr hS ec4 (by decide) (q := (RX6, TX6, 5)) rfl _) rfl rfl hl.1 rfl (lv_room (Nat.le_of_ble_eq_true rfl)) dX6_keyword_17 ⟨(bud hc mm4 hmc hms).1, (bud hc mm4 hmc hms).2⟩) hS (fun H locs hr hS => ?_)
  refine lv_aload_n hx hb dX6_keyword_20 rfl (lv_at hl 1 rfl) ?_
  refine lv_dup hx hb dX6_keyword_21 rfl ?_
  obtain ⟨fs5, x5_, e5, f5, hF⟩ := gI_s hF
  refine h_get (C := RX6) (T := TX6) (N := 5) hx hb hts in_X6 hown hGr hr e5 (by decide) rfl 2 (by decide) (hts _ q1439) (fun _ h9 => h9) f5 dX6_keyword_22 ?_
  refine lv_aload_n hx hb dX6_keyword_25 rfl (lv_at hl 0 rfl) ?_
  obtain ⟨fc6, ec6, hF⟩ := gC_s hF
  obtain ⟨r6, u6, e6, hF⟩ := bnd_s hF
  have mm6 : hle u6 out.2 := (show Mo u6 _ from mo_pV hle_rf (fun h7 m7 => mo_ret m7)) _ hF
  obtain ⟨mc6, ms6, hmc6, hms6⟩ := up_of (moJ9_length u4 r1 _ e6)
  replace hc := cst_call hc hmc6 hms6
  refine h_calli (va_runV (As := []) (rest := [.int x5_, .ref a0]) ⟨hx, hb, hml, hown, hts⟩ (mgJ9_length l D A u4 r1 _ e6 mc6 ms6 hmc6 hms6) (cwV 0 hts (lw_V q1517 q373 q374 q113 q375) rfl rfl rfl (by decide +kernel) ⟨Nat.le_of_ble_eq_true rfl, Nat.le_of_ble_eq_true rfl⟩) (h_preV hGr hr hS ec6 (by decide) (q := (RJ9, TJ9, 4)) rfl _) rfl rfl hl.1 rfl (lv_room (Nat.le_of_ble_eq_true rfl)) dX6_keyword_26 ⟨(bud hc mm6 hmc hms).1, (bud hc mm6 hmc hms).2⟩) hS (fun rr uu H locs hw hr hS => ?_)
  obtain rfl : u6 = uu := (congrArg Prod.snd hw).symm
  obtain rfl : r6 = rr := (congrArg Prod.fst hw).symm
  refine lv_iadd hx hb dX6_keyword_29 ?_
  obtain ⟨fs7, e7, k7, lo7, hF⟩ := pV_s hF
  obtain ⟨h7, eh7⟩ : ∃ z, z = hPut u6 a0 (.inr (5, fs7.set 2 (.int (x5_ + r6)))) := ⟨_, rfl⟩
  rw [← eh7] at hF
  refine h_put (C := RX6) (T := TX6) (N := 5) hx hb hts in_X6 tyX6 tyX6_ok nmX6 hown hGr hr hS e7 (by decide) rfl 2 (by decide) (hts _ q1439) (fun _ h9 => h9) rfl (tyX6_ok 2 (by decide)) rfl rfl k7 lo7 dX6_keyword_30 (fun H locs hr hS => ?_)
  rw [← eh7] at hr
  replace hc := cst_put hc eh7
  have bz := bud_r hc hF hmc hms
  refine vx_ret ?_
  refine W.widen (k := mc) (n := ms) bz.1 bz.2 ?_
  exact W.vret hx hb hret (fun t ht hWm => ⟨⟨h7, rfl, Option.some.inj hF, h_end hGr hr hS ht hWm⟩, hS.F ht⟩) hS.2.2 dX6_keyword_33

def GX6_semicolon (kz : Nat → Nat) (n : Nat) (h : Hp) (a0 : Nat) : Option ((Int32 ⊕ Xq) × Hp) := gC h a0 5 (bnd (GX6_peek n h a0) (fun r1 u1 => if r1 = 59 then gI u1 a0 5 2 (fun x7_ => gC u1 a0 5 (bnx (GX6_require kz u1 a0 (1 : Int32) ((-2) : Int32) x7_) (fun r8 u8 => gI u8 a0 5 2 (fun x9_ => pV u8 a0 5 2 (.int (x9_ + 1)) (fun h10 => some (.inl 0, h10)))))) else gI u1 a0 5 2 (fun x3_ => gC u1 a0 5 (bnx (GX6_require kz u1 a0 (0 : Int32) ((-2) : Int32) x3_) (fun r4 u4 => gI u4 a0 5 2 (fun x5_ => pV u4 a0 5 2 (.int (x5_ + 1)) (fun h6 => some (.inl 0, h6))))))))
theorem moX6_semicolon (kz : Nat → Nat) (n : Nat) (h : Hp) (a0 : Nat) : Mo h (GX6_semicolon kz n h a0) := by
  unfold GX6_semicolon
  exact mo_gC (mo_bnd (moX6_peek n h a0) hle_rf (fun r1 u1 m1 => mo_ite (mo_gI (fun x7_ => mo_gC (mo_bnx (moX6_require kz u1 a0 (1 : Int32) ((-2) : Int32) x7_) m1 (fun r8 u8 m8 => mo_gI (fun x9_ => mo_pV m8 (fun h10 m10 => mo_ret m10)))))) (mo_gI (fun x3_ => mo_gC (mo_bnx (moX6_require kz u1 a0 (0 : Int32) ((-2) : Int32) x3_) m1 (fun r4 u4 m4 => mo_gI (fun x5_ => mo_pV m4 (fun h6 m6 => mo_ret m6))))))))
set_option maxHeartbeats 4000000 in
set_option maxRecDepth 100000 in
theorem mgX6_semicolon (l : Launch) (hl0 : l.stackTraces = false) (D : HD) (A : Nat → Prop) (h : Hp) (n : Nat) (a0 : Nat) (out : (Int32 ⊕ Xq) × Hp) (hF : GX6_semicolon D.2 n h a0 = some out) (mc ms : Nat) (hmc : hCc out.2 = hCc h + mc) (hms : hSl out.2 = hSl h + ms) : vx_Met l yX6_semicolon (ws_ yX6_semicolon cX6_semicolon 2 none) ({ frames := 5, cells := mc, slots := ms, locals := 113 }) (va_Pc [.ref a0] (hW D A h)) (va_Qv (fun u => ((.inl 0 : Int32 ⊕ Xq), u) = out) (hW D A) A) (xC D A out) mc ms A := by
  refine vx_ofW (cc := cX6_semicolon) (maxL := 2) (ret := none) (by decide +kernel) rfl ?_
  intro p e s m args below meth c s₁ B hml htb hv
  obtain ⟨rfl, hr, hGr⟩ := hv
  have hx := B.exec
  have hb := B.bytes
  have hret := B.returns
  have hts := atoms_spec (ws := (ws_ yX6_semicolon cX6_semicolon 2 none)) B.pre
  have hts : ∀ w ∈ lw_all, w.before _ s = true := fun w h => hts w (List.mem_cons_of_mem _ h)
  have hown : s.vm.findClass RX6 = some m.cls := findClass_of_methodNamed B.named
  have hlocks := B.notSynchronized
  have hS : va_S A s.heap s.heap [] := va_S.rf
  have hc : cst h 0 0 h := cst_0
  have hl := lv_entry ([.ref a0]) (n := 2) (Nat.le_of_ble_eq_true rfl)
  rw [lg_entry_eq]
  generalize (lg_sl ([.ref a0]) ++ List.replicate (2 - (lg_sl ([.ref a0])).length) Slot.unset).toArray = ls at hl ⊢
  have hl : lv_has ls 2 [(0, .ref a0)] := hl
  unfold GX6_semicolon at hF
  refine lv_aload_n hx hb dX6_semicolon_0 rfl (lv_at hl 0 rfl) ?_
  obtain ⟨fc1, ec1, hF⟩ := gC_s hF
  obtain ⟨r1, u1, e1, hF⟩ := bnd_s hF
  have mm1 : hle u1 out.2 := (show Mo u1 _ from mo_ite (mo_gI (fun x7_ => mo_gC (mo_bnx (moX6_require D.2 u1 a0 (1 : Int32) ((-2) : Int32) x7_) hle_rf (fun r8 u8 m8 => mo_gI (fun x9_ => mo_pV m8 (fun h10 m10 => mo_ret m10)))))) (mo_gI (fun x3_ => mo_gC (mo_bnx (moX6_require D.2 u1 a0 (0 : Int32) ((-2) : Int32) x3_) hle_rf (fun r4 u4 m4 => mo_gI (fun x5_ => mo_pV m4 (fun h6 m6 => mo_ret m6))))))) _ hF
  obtain ⟨mc1, ms1, hmc1, hms1⟩ := up_of (moX6_peek n h a0 _ e1)
  replace hc := cst_call hc hmc1 hms1
  refine h_calli (va_runV (As := []) (rest := []) ⟨hx, hb, hml, hown, hts⟩ (mgX6_peek l D A h n a0 _ e1 mc1 ms1 hmc1 hms1) (cwV 0 hts (lw_V q1468 q1470 qs29 q134 q1471) rfl rfl rfl (by decide +kernel) ⟨Nat.le_of_ble_eq_true rfl, Nat.le_of_ble_eq_true rfl⟩) (h_preV hGr hr hS ec1 (by decide) (q := (RX6, TX6, 5)) rfl _) rfl rfl hl.1 rfl (lv_room (Nat.le_of_ble_eq_true rfl)) dX6_semicolon_1 ⟨(bud hc mm1 hmc hms).1, (bud hc mm1 hmc hms).2⟩) hS (fun rr uu H locs hw hr hS => ?_)
  obtain rfl : u1 = uu := (congrArg Prod.snd hw).symm
  obtain rfl : r1 = rr := (congrArg Prod.fst hw).symm
  refine lv_bipush (v := 59) hx hb dX6_semicolon_4 (by decide) ?_
  refine lv_icmp_ne (tgt := 13) hx hb dX6_semicolon_6 (by decide) (fun c2 => ?_) (fun c2 => ?_)
  · replace hF := it_f c2 hF
    refine lv_iconst (v := 0) hx hb dX6_semicolon_13 (by decide) ?_
    refine lv_istore_n (lv' := [(1, .int 0), (0, .ref a0)]) hx hb dX6_semicolon_14 rfl hl (by decide) rfl (fun ls hl => ?_)
    refine lv_aload_n hx hb dX6_semicolon_15 rfl (lv_at hl 1 rfl) ?_
    refine lv_iload_n hx hb dX6_semicolon_16 rfl (lv_at hl 0 rfl) ?_
    refine lv_bipush (v := (-2)) hx hb dX6_semicolon_17 (by decide) ?_
    refine lv_aload_n hx hb dX6_semicolon_19 rfl (lv_at hl 1 rfl) ?_
    obtain ⟨fs3, x3_, e3, f3, hF⟩ := gI_s hF
    refine h_get (C := RX6) (T := TX6) (N := 5) hx hb hts in_X6 hown hGr hr e3 (by decide) rfl 2 (by decide) (hts _ q1439) (fun _ h9 => h9) f3 dX6_semicolon_20 ?_
    obtain ⟨fc4, ec4, hF⟩ := gC_s hF
    rcases bnx_s hF with ⟨r4, u4, e4, hF⟩ | ⟨q4, u4, e4, hF⟩
    rotate_left
    · obtain ⟨mc4, ms4, hmc4, hms4⟩ := up_of (moX6_require D.2 u1 a0 (0 : Int32) ((-2) : Int32) x3_ _ e4)
      have hcx := cst_call hc hmc4 hms4
      have bx4 := bud_r hcx hF hmc hms
      refine h_xthrv rfl (vx_runV (As := [.int 0, .int (-2), .int x3_]) (rest := []) ⟨hx, hb, hml, hown, hts⟩ (mgX6_require l hl0 D A u1 a0 (0 : Int32) ((-2) : Int32) x3_ _ e4 mc4 ms4 hmc4 hms4) (cwV 3 hts (lw_V q1485 q1487 qs30 q134 q1488) rfl rfl rfl (by decide +kernel) ⟨Nat.le_of_ble_eq_true rfl, Nat.le_of_ble_eq_true rfl⟩) (h_preV hGr hr hS ec4 (by decide) (q := (RX6, TX6, 5)) rfl _) rfl rfl hl.1 rfl (lv_room (Nat.le_of_ble_eq_true rfl)) dX6_semicolon_23 ⟨bx4.1, bx4.2⟩) hS (fun E9 q9 u9 H locs ce9 e1 e2 e3 hr hS h1 h2 h3 => ?_)
      exact h_xpass hGr htb hlocks hF bx4 e1 e2 e3 hr hS h1 h2 h3
    have mm4 : hle u4 out.2 := (show Mo u4 _ from mo_gI (fun x5_ => mo_pV hle_rf (fun h6 m6 => mo_ret m6))) _ hF
    obtain ⟨mc4, ms4, hmc4, hms4⟩ := up_of (moX6_require D.2 u1 a0 (0 : Int32) ((-2) : Int32) x3_ _ e4)
    replace hc := cst_call hc hmc4 hms4
    refine h_xretv rfl (vx_runV (As := [.int 0, .int (-2), .int x3_]) (rest := []) ⟨hx, hb, hml, hown, hts⟩ (mgX6_require l hl0 D A u1 a0 (0 : Int32) ((-2) : Int32) x3_ _ e4 mc4 ms4 hmc4 hms4) (cwV 3 hts (lw_V q1485 q1487 qs30 q134 q1488) rfl rfl rfl (by decide +kernel) ⟨Nat.le_of_ble_eq_true rfl, Nat.le_of_ble_eq_true rfl⟩) (h_preV hGr hr hS ec4 (by decide) (q := (RX6, TX6, 5)) rfl _) rfl rfl hl.1 rfl (lv_room (Nat.le_of_ble_eq_true rfl)) dX6_semicolon_23 ⟨(bud hc mm4 hmc hms).1, (bud hc mm4 hmc hms).2⟩) hS (fun H locs hr hS => ?_)
    refine lv_aload_n hx hb dX6_semicolon_26 rfl (lv_at hl 1 rfl) ?_
    refine lv_dup hx hb dX6_semicolon_27 rfl ?_
    obtain ⟨fs5, x5_, e5, f5, hF⟩ := gI_s hF
    refine h_get (C := RX6) (T := TX6) (N := 5) hx hb hts in_X6 hown hGr hr e5 (by decide) rfl 2 (by decide) (hts _ q1439) (fun _ h9 => h9) f5 dX6_semicolon_28 ?_
    refine lv_iconst (v := 1) hx hb dX6_semicolon_31 (by decide) ?_
    refine lv_iadd hx hb dX6_semicolon_32 ?_
    obtain ⟨fs6, e6, k6, lo6, hF⟩ := pV_s hF
    obtain ⟨h6, eh6⟩ : ∃ z, z = hPut u4 a0 (.inr (5, fs6.set 2 (.int (x5_ + 1)))) := ⟨_, rfl⟩
    rw [← eh6] at hF
    refine h_put (C := RX6) (T := TX6) (N := 5) hx hb hts in_X6 tyX6 tyX6_ok nmX6 hown hGr hr hS e6 (by decide) rfl 2 (by decide) (hts _ q1439) (fun _ h9 => h9) rfl (tyX6_ok 2 (by decide)) rfl rfl k6 lo6 dX6_semicolon_33 (fun H locs hr hS => ?_)
    rw [← eh6] at hr
    replace hc := cst_put hc eh6
    have bz := bud_r hc hF hmc hms
    refine vx_ret ?_
    refine W.widen (k := mc) (n := ms) bz.1 bz.2 ?_
    exact W.vret hx hb hret (fun t ht hWm => ⟨⟨h6, rfl, Option.some.inj hF, h_end hGr hr hS ht hWm⟩, hS.F ht⟩) hS.2.2 dX6_semicolon_36
  · replace hF := it_t c2 hF
    refine lv_iconst (v := 1) hx hb dX6_semicolon_9 (by decide) ?_
    refine lv_goto (tgt := 14) hx hb dX6_semicolon_10 (by decide) ?_
    refine lv_istore_n (lv' := [(1, .int 1), (0, .ref a0)]) hx hb dX6_semicolon_14 rfl hl (by decide) rfl (fun ls hl => ?_)
    refine lv_aload_n hx hb dX6_semicolon_15 rfl (lv_at hl 1 rfl) ?_
    refine lv_iload_n hx hb dX6_semicolon_16 rfl (lv_at hl 0 rfl) ?_
    refine lv_bipush (v := (-2)) hx hb dX6_semicolon_17 (by decide) ?_
    refine lv_aload_n hx hb dX6_semicolon_19 rfl (lv_at hl 1 rfl) ?_
    obtain ⟨fs7, x7_, e7, f7, hF⟩ := gI_s hF
    refine h_get (C := RX6) (T := TX6) (N := 5) hx hb hts in_X6 hown hGr hr e7 (by decide) rfl 2 (by decide) (hts _ q1439) (fun _ h9 => h9) f7 dX6_semicolon_20 ?_
    obtain ⟨fc8, ec8, hF⟩ := gC_s hF
    rcases bnx_s hF with ⟨r8, u8, e8, hF⟩ | ⟨q8, u8, e8, hF⟩
    rotate_left
    · obtain ⟨mc8, ms8, hmc8, hms8⟩ := up_of (moX6_require D.2 u1 a0 (1 : Int32) ((-2) : Int32) x7_ _ e8)
      have hcx := cst_call hc hmc8 hms8
      have bx8 := bud_r hcx hF hmc hms
      refine h_xthrv rfl (vx_runV (As := [.int 1, .int (-2), .int x7_]) (rest := []) ⟨hx, hb, hml, hown, hts⟩ (mgX6_require l hl0 D A u1 a0 (1 : Int32) ((-2) : Int32) x7_ _ e8 mc8 ms8 hmc8 hms8) (cwV 3 hts (lw_V q1485 q1487 qs30 q134 q1488) rfl rfl rfl (by decide +kernel) ⟨Nat.le_of_ble_eq_true rfl, Nat.le_of_ble_eq_true rfl⟩) (h_preV hGr hr hS ec8 (by decide) (q := (RX6, TX6, 5)) rfl _) rfl rfl hl.1 rfl (lv_room (Nat.le_of_ble_eq_true rfl)) dX6_semicolon_23 ⟨bx8.1, bx8.2⟩) hS (fun E9 q9 u9 H locs ce9 e1 e2 e3 hr hS h1 h2 h3 => ?_)
      exact h_xpass hGr htb hlocks hF bx8 e1 e2 e3 hr hS h1 h2 h3
    have mm8 : hle u8 out.2 := (show Mo u8 _ from mo_gI (fun x9_ => mo_pV hle_rf (fun h10 m10 => mo_ret m10))) _ hF
    obtain ⟨mc8, ms8, hmc8, hms8⟩ := up_of (moX6_require D.2 u1 a0 (1 : Int32) ((-2) : Int32) x7_ _ e8)
    replace hc := cst_call hc hmc8 hms8
    refine h_xretv rfl (vx_runV (As := [.int 1, .int (-2), .int x7_]) (rest := []) ⟨hx, hb, hml, hown, hts⟩ (mgX6_require l hl0 D A u1 a0 (1 : Int32) ((-2) : Int32) x7_ _ e8 mc8 ms8 hmc8 hms8) (cwV 3 hts (lw_V q1485 q1487 qs30 q134 q1488) rfl rfl rfl (by decide +kernel) ⟨Nat.le_of_ble_eq_true rfl, Nat.le_of_ble_eq_true rfl⟩) (h_preV hGr hr hS ec8 (by decide) (q := (RX6, TX6, 5)) rfl _) rfl rfl hl.1 rfl (lv_room (Nat.le_of_ble_eq_true rfl)) dX6_semicolon_23 ⟨(bud hc mm8 hmc hms).1, (bud hc mm8 hmc hms).2⟩) hS (fun H locs hr hS => ?_)
    refine lv_aload_n hx hb dX6_semicolon_26 rfl (lv_at hl 1 rfl) ?_
    refine lv_dup hx hb dX6_semicolon_27 rfl ?_
    obtain ⟨fs9, x9_, e9, f9, hF⟩ := gI_s hF
    refine h_get (C := RX6) (T := TX6) (N := 5) hx hb hts in_X6 hown hGr hr e9 (by decide) rfl 2 (by decide) (hts _ q1439) (fun _ h9 => h9) f9 dX6_semicolon_28 ?_
    refine lv_iconst (v := 1) hx hb dX6_semicolon_31 (by decide) ?_
    refine lv_iadd hx hb dX6_semicolon_32 ?_
    obtain ⟨fs10, e10, k10, lo10, hF⟩ := pV_s hF
    obtain ⟨h10, eh10⟩ : ∃ z, z = hPut u8 a0 (.inr (5, fs10.set 2 (.int (x9_ + 1)))) := ⟨_, rfl⟩
    rw [← eh10] at hF
    refine h_put (C := RX6) (T := TX6) (N := 5) hx hb hts in_X6 tyX6 tyX6_ok nmX6 hown hGr hr hS e10 (by decide) rfl 2 (by decide) (hts _ q1439) (fun _ h9 => h9) rfl (tyX6_ok 2 (by decide)) rfl rfl k10 lo10 dX6_semicolon_33 (fun H locs hr hS => ?_)
    rw [← eh10] at hr
    replace hc := cst_put hc eh10
    have bz := bud_r hc hF hmc hms
    refine vx_ret ?_
    refine W.widen (k := mc) (n := ms) bz.1 bz.2 ?_
    exact W.vret hx hb hret (fun t ht hWm => ⟨⟨h10, rfl, Option.some.inj hF, h_end hGr hr hS ht hWm⟩, hS.F ht⟩) hS.2.2 dX6_semicolon_36

def GX6_cell (kz : Nat → Nat) (n : Nat) (h : Hp) (a0 : Nat) : Option ((Int32 ⊕ Xq) × Hp) := gQ h a0 5 1 (fun x1_ => gI h x1_ 2 1 (fun x2_ => gC h a0 5 (bnx (GX6_number kz n h a0 (0 : Int32) (x2_ - 1)) (fun r3 u3 => gQ u3 a0 5 1 (fun x4_ => gI u3 x4_ 2 1 (fun x5_ => gC u3 a0 5 (bnx (GX6_number kz n u3 a0 (0 : Int32) (x5_ - 1)) (fun r6 u6 => gQ u6 a0 5 1 (fun x7_ => gQ u6 a0 5 1 (fun x8_ => gQ u6 x8_ 2 0 (fun x9_ => gI u6 x9_ 3 0 (fun x10_ => gC u6 a0 5 (bnx (GX6_number kz n u6 a0 (0 : Int32) (x10_ - 1)) (fun r11 u11 => gC u11 x7_ 2 (bnd (GX2_sets n u11 x7_ r3 r6 r11) (fun r12 u12 => some (.inl 0, u12)))))))))))))))))
theorem moX6_cell (kz : Nat → Nat) (n : Nat) (h : Hp) (a0 : Nat) : Mo h (GX6_cell kz n h a0) := by
  unfold GX6_cell
  exact mo_gQ (fun x1_ => mo_gI (fun x2_ => mo_gC (mo_bnx (moX6_number kz n h a0 (0 : Int32) (x2_ - 1)) hle_rf (fun r3 u3 m3 => mo_gQ (fun x4_ => mo_gI (fun x5_ => mo_gC (mo_bnx (moX6_number kz n u3 a0 (0 : Int32) (x5_ - 1)) m3 (fun r6 u6 m6 => mo_gQ (fun x7_ => mo_gQ (fun x8_ => mo_gQ (fun x9_ => mo_gI (fun x10_ => mo_gC (mo_bnx (moX6_number kz n u6 a0 (0 : Int32) (x10_ - 1)) m6 (fun r11 u11 m11 => mo_gC (mo_bnd (moX2_sets n u11 x7_ r3 r6 r11) m11 (fun r12 u12 m12 => mo_ret m12))))))))))))))))
set_option maxHeartbeats 4000000 in
set_option maxRecDepth 100000 in
theorem mgX6_cell (l : Launch) (hl0 : l.stackTraces = false) (D : HD) (A : Nat → Prop) (h : Hp) (n : Nat) (a0 : Nat) (out : (Int32 ⊕ Xq) × Hp) (hF : GX6_cell D.2 n h a0 = some out) (mc ms : Nat) (hmc : hCc out.2 = hCc h + mc) (hms : hSl out.2 = hSl h + ms) : vx_Met l yX6_cell (ws_ yX6_cell cX6_cell 3 none) ({ frames := 9, cells := mc, slots := ms, locals := 3123 }) (va_Pc [.ref a0] (hW D A h)) (va_Qv (fun u => ((.inl 0 : Int32 ⊕ Xq), u) = out) (hW D A) A) (xC D A out) mc ms A := by
  refine vx_ofW (cc := cX6_cell) (maxL := 3) (ret := none) (by decide +kernel) rfl ?_
  intro p e s m args below meth c s₁ B hml htb hv
  obtain ⟨rfl, hr, hGr⟩ := hv
  have hx := B.exec
  have hb := B.bytes
  have hret := B.returns
  have hts := atoms_spec (ws := (ws_ yX6_cell cX6_cell 3 none)) B.pre
  have hts : ∀ w ∈ lw_all, w.before _ s = true := fun w h => hts w (List.mem_cons_of_mem _ h)
  have hown : s.vm.findClass RX6 = some m.cls := findClass_of_methodNamed B.named
  have hlocks := B.notSynchronized
  have hS : va_S A s.heap s.heap [] := va_S.rf
  have hc : cst h 0 0 h := cst_0
  have hl := lv_entry ([.ref a0]) (n := 3) (Nat.le_of_ble_eq_true rfl)
  rw [lg_entry_eq]
  generalize (lg_sl ([.ref a0]) ++ List.replicate (3 - (lg_sl ([.ref a0])).length) Slot.unset).toArray = ls at hl ⊢
  have hl : lv_has ls 3 [(0, .ref a0)] := hl
  unfold GX6_cell at hF
  refine lv_aload_n hx hb dX6_cell_0 rfl (lv_at hl 0 rfl) ?_
  refine lv_iconst (v := 0) hx hb dX6_cell_1 (by decide) ?_
  refine lv_aload_n hx hb dX6_cell_2 rfl (lv_at hl 0 rfl) ?_
  obtain ⟨fs1, x1_, e1, f1, hF⟩ := gQ_s hF
  refine h_get (C := RX6) (T := TX6) (N := 5) hx hb hts in_X6 hown hGr hr e1 (by decide) rfl 1 (by decide) (hts _ q1438) (fun _ h9 => h9) f1 dX6_cell_3 ?_
  obtain ⟨fs2, x2_, e2, f2, hF⟩ := gI_s hF
  refine h_getN (C := RX2) (T := TX2) (N := 11) hx hb hts in_X2 hown hGr hr e2 (by decide) rfl 1 (by decide) (va_Nw.use rfl (hGr.nw q566 rfl)) (fun _ h9 => h9) f2 dX6_cell_6 ?_
  refine lv_iconst (v := 1) hx hb dX6_cell_9 (by decide) ?_
  refine lv_isub hx hb dX6_cell_10 ?_
  obtain ⟨fc3, ec3, hF⟩ := gC_s hF
  rcases bnx_s hF with ⟨r3, u3, e3, hF⟩ | ⟨q3, u3, e3, hF⟩
  rotate_left
  · obtain ⟨mc3, ms3, hmc3, hms3⟩ := up_of (moX6_number D.2 n h a0 (0 : Int32) (x2_ - 1) _ e3)
    have hcx := cst_call hc hmc3 hms3
    have bx3 := bud_r hcx hF hmc hms
    refine h_xthri rfl (vx_runV (As := [.int 0, .int (x2_ - 1)]) (rest := []) ⟨hx, hb, hml, hown, hts⟩ (mgX6_number l hl0 D A h n a0 (0 : Int32) (x2_ - 1) _ e3 mc3 ms3 hmc3 hms3) (cwV 2 hts (lw_V q1518 q1520 qs31 q134 q1521) rfl rfl rfl (by decide +kernel) ⟨Nat.le_of_ble_eq_true rfl, Nat.le_of_ble_eq_true rfl⟩) (h_preV hGr hr hS ec3 (by decide) (q := (RX6, TX6, 5)) rfl _) rfl rfl hl.1 rfl (lv_room (Nat.le_of_ble_eq_true rfl)) dX6_cell_11 ⟨bx3.1, bx3.2⟩) hS (fun E9 q9 u9 H locs ce9 e1 e2 e3 hr hS h1 h2 h3 => ?_)
    exact h_xpass hGr htb hlocks hF bx3 e1 e2 e3 hr hS h1 h2 h3
  have mm3 : hle u3 out.2 := (show Mo u3 _ from mo_gQ (fun x4_ => mo_gI (fun x5_ => mo_gC (mo_bnx (moX6_number D.2 n u3 a0 (0 : Int32) (x5_ - 1)) hle_rf (fun r6 u6 m6 => mo_gQ (fun x7_ => mo_gQ (fun x8_ => mo_gQ (fun x9_ => mo_gI (fun x10_ => mo_gC (mo_bnx (moX6_number D.2 n u6 a0 (0 : Int32) (x10_ - 1)) m6 (fun r11 u11 m11 => mo_gC (mo_bnd (moX2_sets n u11 x7_ r3 r6 r11) m11 (fun r12 u12 m12 => mo_ret m12))))))))))))) _ hF
  obtain ⟨mc3, ms3, hmc3, hms3⟩ := up_of (moX6_number D.2 n h a0 (0 : Int32) (x2_ - 1) _ e3)
  replace hc := cst_call hc hmc3 hms3
  refine h_xreti rfl (vx_runV (As := [.int 0, .int (x2_ - 1)]) (rest := []) ⟨hx, hb, hml, hown, hts⟩ (mgX6_number l hl0 D A h n a0 (0 : Int32) (x2_ - 1) _ e3 mc3 ms3 hmc3 hms3) (cwV 2 hts (lw_V q1518 q1520 qs31 q134 q1521) rfl rfl rfl (by decide +kernel) ⟨Nat.le_of_ble_eq_true rfl, Nat.le_of_ble_eq_true rfl⟩) (h_preV hGr hr hS ec3 (by decide) (q := (RX6, TX6, 5)) rfl _) rfl rfl hl.1 rfl (lv_room (Nat.le_of_ble_eq_true rfl)) dX6_cell_11 ⟨(bud hc mm3 hmc hms).1, (bud hc mm3 hmc hms).2⟩) hS (fun H locs hr hS => ?_)
  refine lv_istore_n (lv' := [(1, .int r3), (0, .ref a0)]) hx hb dX6_cell_14 rfl hl (by decide) rfl (fun ls hl => ?_)
  refine lv_aload_n hx hb dX6_cell_15 rfl (lv_at hl 1 rfl) ?_
  refine lv_iconst (v := 0) hx hb dX6_cell_16 (by decide) ?_
  refine lv_aload_n hx hb dX6_cell_17 rfl (lv_at hl 1 rfl) ?_
  obtain ⟨fs4, x4_, e4, f4, hF⟩ := gQ_s hF
  refine h_get (C := RX6) (T := TX6) (N := 5) hx hb hts in_X6 hown hGr hr e4 (by decide) rfl 1 (by decide) (hts _ q1438) (fun _ h9 => h9) f4 dX6_cell_18 ?_
  obtain ⟨fs5, x5_, e5, f5, hF⟩ := gI_s hF
  refine h_getN (C := RX2) (T := TX2) (N := 11) hx hb hts in_X2 hown hGr hr e5 (by decide) rfl 1 (by decide) (va_Nw.use rfl (hGr.nw q566 rfl)) (fun _ h9 => h9) f5 dX6_cell_21 ?_
  refine lv_iconst (v := 1) hx hb dX6_cell_24 (by decide) ?_
  refine lv_isub hx hb dX6_cell_25 ?_
  obtain ⟨fc6, ec6, hF⟩ := gC_s hF
  rcases bnx_s hF with ⟨r6, u6, e6, hF⟩ | ⟨q6, u6, e6, hF⟩
  rotate_left
  · obtain ⟨mc6, ms6, hmc6, hms6⟩ := up_of (moX6_number D.2 n u3 a0 (0 : Int32) (x5_ - 1) _ e6)
    have hcx := cst_call hc hmc6 hms6
    have bx6 := bud_r hcx hF hmc hms
    refine h_xthri rfl (vx_runV (As := [.int 0, .int (x5_ - 1)]) (rest := []) ⟨hx, hb, hml, hown, hts⟩ (mgX6_number l hl0 D A u3 n a0 (0 : Int32) (x5_ - 1) _ e6 mc6 ms6 hmc6 hms6) (cwV 2 hts (lw_V q1518 q1520 qs31 q134 q1521) rfl rfl rfl (by decide +kernel) ⟨Nat.le_of_ble_eq_true rfl, Nat.le_of_ble_eq_true rfl⟩) (h_preV hGr hr hS ec6 (by decide) (q := (RX6, TX6, 5)) rfl _) rfl rfl hl.1 rfl (lv_room (Nat.le_of_ble_eq_true rfl)) dX6_cell_26 ⟨bx6.1, bx6.2⟩) hS (fun E9 q9 u9 H locs ce9 e1 e2 e3 hr hS h1 h2 h3 => ?_)
    exact h_xpass hGr htb hlocks hF bx6 e1 e2 e3 hr hS h1 h2 h3
  have mm6 : hle u6 out.2 := (show Mo u6 _ from mo_gQ (fun x7_ => mo_gQ (fun x8_ => mo_gQ (fun x9_ => mo_gI (fun x10_ => mo_gC (mo_bnx (moX6_number D.2 n u6 a0 (0 : Int32) (x10_ - 1)) hle_rf (fun r11 u11 m11 => mo_gC (mo_bnd (moX2_sets n u11 x7_ r3 r6 r11) m11 (fun r12 u12 m12 => mo_ret m12))))))))) _ hF
  obtain ⟨mc6, ms6, hmc6, hms6⟩ := up_of (moX6_number D.2 n u3 a0 (0 : Int32) (x5_ - 1) _ e6)
  replace hc := cst_call hc hmc6 hms6
  refine h_xreti rfl (vx_runV (As := [.int 0, .int (x5_ - 1)]) (rest := []) ⟨hx, hb, hml, hown, hts⟩ (mgX6_number l hl0 D A u3 n a0 (0 : Int32) (x5_ - 1) _ e6 mc6 ms6 hmc6 hms6) (cwV 2 hts (lw_V q1518 q1520 qs31 q134 q1521) rfl rfl rfl (by decide +kernel) ⟨Nat.le_of_ble_eq_true rfl, Nat.le_of_ble_eq_true rfl⟩) (h_preV hGr hr hS ec6 (by decide) (q := (RX6, TX6, 5)) rfl _) rfl rfl hl.1 rfl (lv_room (Nat.le_of_ble_eq_true rfl)) dX6_cell_26 ⟨(bud hc mm6 hmc hms).1, (bud hc mm6 hmc hms).2⟩) hS (fun H locs hr hS => ?_)
  refine lv_istore_n (lv' := [(2, .int r6), (1, .int r3), (0, .ref a0)]) hx hb dX6_cell_29 rfl hl (by decide) rfl (fun ls hl => ?_)
  refine lv_aload_n hx hb dX6_cell_30 rfl (lv_at hl 2 rfl) ?_
  obtain ⟨fs7, x7_, e7, f7, hF⟩ := gQ_s hF
  refine h_get (C := RX6) (T := TX6) (N := 5) hx hb hts in_X6 hown hGr hr e7 (by decide) rfl 1 (by decide) (hts _ q1438) (fun _ h9 => h9) f7 dX6_cell_31 ?_
  refine lv_iload_n hx hb dX6_cell_34 rfl (lv_at hl 1 rfl) ?_
  refine lv_iload_n hx hb dX6_cell_35 rfl (lv_at hl 0 rfl) ?_
  refine lv_aload_n hx hb dX6_cell_36 rfl (lv_at hl 2 rfl) ?_
  refine lv_iconst (v := 0) hx hb dX6_cell_37 (by decide) ?_
  refine lv_aload_n hx hb dX6_cell_38 rfl (lv_at hl 2 rfl) ?_
  obtain ⟨fs8, x8_, e8, f8, hF⟩ := gQ_s hF
  refine h_get (C := RX6) (T := TX6) (N := 5) hx hb hts in_X6 hown hGr hr e8 (by decide) rfl 1 (by decide) (hts _ q1438) (fun _ h9 => h9) f8 dX6_cell_39 ?_
  obtain ⟨fs9, x9_, e9, f9, hF⟩ := gQ_s hF
  refine h_getN (C := RX2) (T := TX2) (N := 11) hx hb hts in_X2 hown hGr hr e9 (by decide) rfl 0 (by decide) (va_Nw.use rfl (hGr.nw q563 rfl)) (fun _ h9 => h9) f9 dX6_cell_42 ?_
  obtain ⟨fs10, x10_, e10, f10, hF⟩ := gI_s hF
  refine h_getN (C := RX3) (T := TX3) (N := 2) hx hb hts in_X3 hown hGr hr e10 (by decide) rfl 0 (by decide) (va_Nw.use rfl (hGr.nw q167 rfl)) (fun _ h9 => h9) f10 dX6_cell_45 ?_
  refine lv_iconst (v := 1) hx hb dX6_cell_48 (by decide) ?_
  refine lv_isub hx hb dX6_cell_49 ?_
  obtain ⟨fc11, ec11, hF⟩ := gC_s hF
  rcases bnx_s hF with ⟨r11, u11, e11, hF⟩ | ⟨q11, u11, e11, hF⟩
  rotate_left
  · obtain ⟨mc11, ms11, hmc11, hms11⟩ := up_of (moX6_number D.2 n u6 a0 (0 : Int32) (x10_ - 1) _ e11)
    have hcx := cst_call hc hmc11 hms11
    have bx11 := bud_r hcx hF hmc hms
    refine h_xthri rfl (vx_runV (As := [.int 0, .int (x10_ - 1)]) (rest := [.int r6, .int r3, .ref x7_]) ⟨hx, hb, hml, hown, hts⟩ (mgX6_number l hl0 D A u6 n a0 (0 : Int32) (x10_ - 1) _ e11 mc11 ms11 hmc11 hms11) (cwV 2 hts (lw_V q1518 q1520 qs31 q134 q1521) rfl rfl rfl (by decide +kernel) ⟨Nat.le_of_ble_eq_true rfl, Nat.le_of_ble_eq_true rfl⟩) (h_preV hGr hr hS ec11 (by decide) (q := (RX6, TX6, 5)) rfl _) rfl rfl hl.1 rfl (lv_room (Nat.le_of_ble_eq_true rfl)) dX6_cell_50 ⟨bx11.1, bx11.2⟩) hS (fun E9 q9 u9 H locs ce9 e1 e2 e3 hr hS h1 h2 h3 => ?_)
    exact h_xpass hGr htb hlocks hF bx11 e1 e2 e3 hr hS h1 h2 h3
  have mm11 : hle u11 out.2 := (show Mo u11 _ from mo_gC (mo_bnd (moX2_sets n u11 x7_ r3 r6 r11) hle_rf (fun r12 u12 m12 => mo_ret m12))) _ hF
  obtain ⟨mc11, ms11, hmc11, hms11⟩ := up_of (moX6_number D.2 n u6 a0 (0 : Int32) (x10_ - 1) _ e11)
  replace hc := cst_call hc hmc11 hms11
  refine h_xreti rfl (vx_runV (As := [.int 0, .int (x10_ - 1)]) (rest := [.int r6, .int r3, .ref x7_]) ⟨hx, hb, hml, hown, hts⟩ (mgX6_number l hl0 D A u6 n a0 (0 : Int32) (x10_ - 1) _ e11 mc11 ms11 hmc11 hms11) (cwV 2 hts (lw_V q1518 q1520 qs31 q134 q1521) rfl rfl rfl (by decide +kernel) ⟨Nat.le_of_ble_eq_true rfl, Nat.le_of_ble_eq_true rfl⟩) (h_preV hGr hr hS ec11 (by decide) (q := (RX6, TX6, 5)) rfl _) rfl rfl hl.1 rfl (lv_room (Nat.le_of_ble_eq_true rfl)) dX6_cell_50 ⟨(bud hc mm11 hmc hms).1, (bud hc mm11 hmc hms).2⟩) hS (fun H locs hr hS => ?_)
  obtain ⟨fc12, ec12, hF⟩ := gC_s hF
  obtain ⟨r12, u12, e12, hF⟩ := bnd_s hF
  have mm12 : hle u12 out.2 := (show Mo u12 _ from mo_ret hle_rf) _ hF
  obtain ⟨mc12, ms12, hmc12, hms12⟩ := up_of (moX2_sets n u11 x7_ r3 r6 r11 _ e12)
  replace hc := cst_call hc hmc12 hms12
  refine h_callv (va_runV (As := [.int r3, .int r6, .int r11]) (rest := []) ⟨hx, hb, hml, hown, hts⟩ (mgX2_sets l D A u11 n x7_ r3 r6 r11 _ e12 mc12 ms12 hmc12 hms12) (cwV 3 hts (lw_V q1610 q1611 q1612 q102 q1613) rfl rfl rfl (by decide +kernel) ⟨Nat.le_of_ble_eq_true rfl, Nat.le_of_ble_eq_true rfl⟩) (h_preV hGr hr hS ec12 (by decide) (q := (RX2, TX2, 11)) rfl _) rfl rfl hl.1 rfl (lv_room (Nat.le_of_ble_eq_true rfl)) dX6_cell_53 ⟨(bud hc mm12 hmc hms).1, (bud hc mm12 hmc hms).2⟩) hS (fun uu H locs hw hr hS => ?_)
  obtain rfl : u12 = uu := (congrArg Prod.snd hw).symm
  have bz := bud_r hc hF hmc hms
  refine vx_ret ?_
  refine W.widen (k := mc) (n := ms) bz.1 bz.2 ?_
  exact W.vret hx hb hret (fun t ht hWm => ⟨⟨u12, rfl, Option.some.inj hF, h_end hGr hr hS ht hWm⟩, hS.F ht⟩) hS.2.2 dX6_cell_56

def GX6_start_1 (kz : Nat → Nat) (R : Nat → Hp → Nat → Int32 → Option ((Int32 ⊕ Xq) × Hp)) (n : Nat) (h : Hp) (b0 : Nat) (x1 : Int32) : Option ((Int32 ⊕ Xq) × Hp) := gC h b0 5 (bnd (GX6_isNumberNext n h b0) (fun r8 u8 => if r8 = 0 then gI u8 b0 5 2 (fun x10_ => gC u8 b0 5 (bnx (GX6_require kz u8 b0 (0 : Int32) ((-2) : Int32) x10_) (fun r11 u11 => gQ u11 b0 5 1 (fun x12_ => gQ u11 b0 5 1 (fun x13_ => gQ u11 x13_ 2 3 (fun x14_ => gQ u11 b0 5 1 (fun x15_ => gQ u11 x15_ 2 0 (fun x16_ => gI u11 x16_ 3 0 (fun x17_ => gC u11 b0 5 (bnx (GX6_number kz n u11 b0 (0 : Int32) (x17_ - 1)) (fun r18 u18 => gC u18 x14_ 4 (bnd (GX4_with u18 x14_ x1 r18) (fun r19 u19 => pV u19 x12_ 2 3 (.ref r19) (fun h20 => gC h20 b0 5 (bnd (GX6_isNumberNext n h20 b0) (fun r21 u21 => if r21 = 0 then some (.inl 0, u21) else R 1 u21 b0 (x1 + 1))))))))))))))))) else gQ u8 b0 5 1 (fun x23_ => gI u8 x23_ 2 1 (fun x24_ => if x24_ ≤ x1 then gI u8 b0 5 2 (fun x26_ => gC u8 b0 5 (bnx (GX6_require kz u8 b0 (0 : Int32) ((-2) : Int32) x26_) (fun r27 u27 => gQ u27 b0 5 1 (fun x28_ => gQ u27 b0 5 1 (fun x29_ => gQ u27 x29_ 2 3 (fun x30_ => gQ u27 b0 5 1 (fun x31_ => gQ u27 x31_ 2 0 (fun x32_ => gI u27 x32_ 3 0 (fun x33_ => gC u27 b0 5 (bnx (GX6_number kz n u27 b0 (0 : Int32) (x33_ - 1)) (fun r34 u34 => gC u34 x30_ 4 (bnd (GX4_with u34 x30_ x1 r34) (fun r35 u35 => pV u35 x28_ 2 3 (.ref r35) (fun h36 => gC h36 b0 5 (bnd (GX6_isNumberNext n h36 b0) (fun r37 u37 => if r37 = 0 then some (.inl 0, u37) else R 1 u37 b0 (x1 + 1))))))))))))))))) else gI u8 b0 5 2 (fun x39_ => gC u8 b0 5 (bnx (GX6_require kz u8 b0 (1 : Int32) ((-2) : Int32) x39_) (fun r40 u40 => gQ u40 b0 5 1 (fun x41_ => gQ u40 b0 5 1 (fun x42_ => gQ u40 x42_ 2 3 (fun x43_ => gQ u40 b0 5 1 (fun x44_ => gQ u40 x44_ 2 0 (fun x45_ => gI u40 x45_ 3 0 (fun x46_ => gC u40 b0 5 (bnx (GX6_number kz n u40 b0 (0 : Int32) (x46_ - 1)) (fun r47 u47 => gC u47 x43_ 4 (bnd (GX4_with u47 x43_ x1 r47) (fun r48 u48 => pV u48 x41_ 2 3 (.ref r48) (fun h49 => gC h49 b0 5 (bnd (GX6_isNumberNext n h49 b0) (fun r50 u50 => if r50 = 0 then some (.inl 0, u50) else R 1 u50 b0 (x1 + 1)))))))))))))))))))))
def GX6_start_r (kz : Nat → Nat) : Nat → Nat → Hp → Nat → Int32 → Option ((Int32 ⊕ Xq) × Hp)
  | 0 => fun _ _ _ _ => none
  | n + 1 => fun k => match k with  | _ => GX6_start_1 kz (GX6_start_r kz n) n
def GX6_start_0 (kz : Nat → Nat) (R : Nat → Hp → Nat → Int32 → Option ((Int32 ⊕ Xq) × Hp)) (n : Nat) (h : Hp) (a0 : Nat) : Option ((Int32 ⊕ Xq) × Hp) := gQ h a0 5 1 (fun x1_ => nW h 4 [.null] 1 (fun a2_ h2 => gQ h2 a0 5 1 (fun x3_ => gI h2 x3_ 2 1 (fun x4_ => nA h2 0 x4_ (fun a5_ h5 => bnd (GX4_init h5 a2_ a5_) (fun r6 u6 => pV u6 x1_ 2 3 (.ref a2_) (fun h7 => R 1 h7 a0 (0 : Int32))))))))
def GX6_start (kz : Nat → Nat) (n : Nat) (h : Hp) (a0 : Nat) : Option ((Int32 ⊕ Xq) × Hp) := GX6_start_0 kz (GX6_start_r kz n) n h a0
theorem moX6_start_r (kz : Nat → Nat) (n : Nat) : (∀ (h : Hp) (b0 : Nat) (x1 : Int32), Mo h (GX6_start_r kz n 1 h b0 x1)) := by
  induction n with
  | zero => exact (fun _ _ _ => mo_no)
  | succ n ih =>
    have ml1 := ih
    exact (fun h b0 x1 => show Mo h (GX6_start_1 kz (GX6_start_r kz n) n h b0 x1) from by unfold GX6_start_1; exact mo_gC (mo_bnd (moX6_isNumberNext n h b0) hle_rf (fun r8 u8 m8 => mo_ite (mo_gI (fun x10_ => mo_gC (mo_bnx (moX6_require kz u8 b0 (0 : Int32) ((-2) : Int32) x10_) m8 (fun r11 u11 m11 => mo_gQ (fun x12_ => mo_gQ (fun x13_ => mo_gQ (fun x14_ => mo_gQ (fun x15_ => mo_gQ (fun x16_ => mo_gI (fun x17_ => mo_gC (mo_bnx (moX6_number kz n u11 b0 (0 : Int32) (x17_ - 1)) m11 (fun r18 u18 m18 => mo_gC (mo_bnd (moX4_with u18 x14_ x1 r18) m18 (fun r19 u19 m19 => mo_pV m19 (fun h20 m20 => mo_gC (mo_bnd (moX6_isNumberNext n h20 b0) m20 (fun r21 u21 m21 => mo_ite (mo_ret m21) (mo_tr m21 (ml1 u21 b0 (x1 + 1)))))))))))))))))))) (mo_gQ (fun x23_ => mo_gI (fun x24_ => mo_ite (mo_gI (fun x26_ => mo_gC (mo_bnx (moX6_require kz u8 b0 (0 : Int32) ((-2) : Int32) x26_) m8 (fun r27 u27 m27 => mo_gQ (fun x28_ => mo_gQ (fun x29_ => mo_gQ (fun x30_ => mo_gQ (fun x31_ => mo_gQ (fun x32_ => mo_gI (fun x33_ => mo_gC (mo_bnx (moX6_number kz n u27 b0 (0 : Int32) (x33_ - 1)) m27 (fun r34 u34 m34 => mo_gC (mo_bnd (moX4_with u34 x30_ x1 r34) m34 (fun r35 u35 m35 => mo_pV m35 (fun h36 m36 => mo_gC (mo_bnd (moX6_isNumberNext n h36 b0) m36 (fun r37 u37 m37 => mo_ite (mo_ret m37) (mo_tr m37 (ml1 u37 b0 (x1 + 1)))))))))))))))))))) (mo_gI (fun x39_ => mo_gC (mo_bnx (moX6_require kz u8 b0 (1 : Int32) ((-2) : Int32) x39_) m8 (fun r40 u40 m40 => mo_gQ (fun x41_ => mo_gQ (fun x42_ => mo_gQ (fun x43_ => mo_gQ (fun x44_ => mo_gQ (fun x45_ => mo_gI (fun x46_ => mo_gC (mo_bnx (moX6_number kz n u40 b0 (0 : Int32) (x46_ - 1)) m40 (fun r47 u47 m47 => mo_gC (mo_bnd (moX4_with u47 x43_ x1 r47) m47 (fun r48 u48 m48 => mo_pV m48 (fun h49 m49 => mo_gC (mo_bnd (moX6_isNumberNext n h49 b0) m49 (fun r50 u50 m50 => mo_ite (mo_ret m50) (mo_tr m50 (ml1 u50 b0 (x1 + 1))))))))))))))))))))))))))
theorem moX6_start (kz : Nat → Nat) (n : Nat) (h : Hp) (a0 : Nat) : Mo h (GX6_start kz n h a0) := by
  have ml1 := moX6_start_r kz n
  unfold GX6_start GX6_start_0
  exact mo_gQ (fun x1_ => mo_nW hle_rf (fun a2_ h2 m2 => mo_gQ (fun x3_ => mo_gI (fun x4_ => mo_nA m2 (fun a5_ h5 m5 => mo_bnd (moX4_init h5 a2_ a5_) m5 (fun r6 u6 m6 => mo_pV m6 (fun h7 m7 => mo_tr m7 (ml1 h7 a0 (0 : Int32)))))))))
set_option maxHeartbeats 4000000 in
set_option maxRecDepth 100000 in
theorem mgX6_start (l : Launch) (hl0 : l.stackTraces = false) (D : HD) (A : Nat → Prop) (h : Hp) (n : Nat) (a0 : Nat) (out : (Int32 ⊕ Xq) × Hp) (hF : GX6_start D.2 n h a0 = some out) (mc ms : Nat) (hmc : hCc out.2 = hCc h + mc) (hms : hSl out.2 = hSl h + ms) : vx_Met l yX6_start (ws_ yX6_start cX6_start 3 none) ({ frames := 6, cells := mc, slots := ms, locals := 137 }) (va_Pc [.ref a0] (hW D A h)) (va_Qv (fun u => ((.inl 0 : Int32 ⊕ Xq), u) = out) (hW D A) A) (xC D A out) mc ms A := by
  refine vx_ofW (cc := cX6_start) (maxL := 3) (ret := none) (by decide +kernel) rfl ?_
  intro p e s m args below meth c s₁ B hml htb hv
  obtain ⟨rfl, hr, hGr⟩ := hv
  have hx := B.exec
  have hb := B.bytes
  have hret := B.returns
  have hts := atoms_spec (ws := (ws_ yX6_start cX6_start 3 none)) B.pre
  have hts : ∀ w ∈ lw_all, w.before _ s = true := fun w h => hts w (List.mem_cons_of_mem _ h)
  have hown : s.vm.findClass RX6 = some m.cls := findClass_of_methodNamed B.named
  have hlocks := B.notSynchronized
  have hS : va_S A s.heap s.heap [] := va_S.rf
  have hc : cst h 0 0 h := cst_0
  have hl := lv_entry ([.ref a0]) (n := 3) (Nat.le_of_ble_eq_true rfl)
  rw [lg_entry_eq]
  generalize (lg_sl ([.ref a0]) ++ List.replicate (3 - (lg_sl ([.ref a0])).length) Slot.unset).toArray = ls at hl ⊢
  have hl : lv_has ls 3 [(0, .ref a0)] := hl
  obtain ⟨h0, eh0⟩ : ∃ z, z = h := ⟨_, rfl⟩
  rw [← eh0] at hmc hms
  have loop : ∀ n : Nat, (∀ (h : Hp) (b0 : Nat) (x1 : Int32), GX6_start_r D.2 n 1 h b0 x1 = some out → ∀ (H : Heap) (locs : List Loc) (cells slots : Nat), cst h0 cells slots h → hR D A h H → va_S A s.heap H locs → ∀ ls : Array Slot, lv_has ls 3 [(0, .ref b0), (1, .int x1)] → W p l e (headSpec (ws_ yX6_start cX6_start 3 none) ({ frames := 6, cells := mc, slots := ms, locals := 137 })).room s m ([.ref a0] : List Value).toArray below meth c H locs cells slots (vx_MQ below (va_Qv (fun u => ((.inl 0 : Int32 ⊕ Xq), u) = out) (hW D A) A) (xC D A out) ([.ref a0] : List Value).toArray s mc ms A) (F0 m 25 ls [])) := by
    intro n
    induction n with
    | zero => exact (fun _ _ _ h => nomatch h)
    | succ n ih =>
      have lp1 := ih
      have ml1 := moX6_start_r D.2 n
      intro h b0 x1 hF H locs cells slots hc hr hS ls hl
      replace hF : GX6_start_1 D.2 (GX6_start_r D.2 n) n h b0 x1 = some out := hF
      unfold GX6_start_1 at hF
      refine lv_aload_n hx hb dX6_start_25 rfl (lv_at hl 0 rfl) ?_
      obtain ⟨fc8, ec8, hF⟩ := gC_s hF
      obtain ⟨r8, u8, e8, hF⟩ := bnd_s hF
      have mm8 : hle u8 out.2 := (show Mo u8 _ from mo_ite (mo_gI (fun x10_ => mo_gC (mo_bnx (moX6_require D.2 u8 b0 (0 : Int32) ((-2) : Int32) x10_) hle_rf (fun r11 u11 m11 => mo_gQ (fun x12_ => mo_gQ (fun x13_ => mo_gQ (fun x14_ => mo_gQ (fun x15_ => mo_gQ (fun x16_ => mo_gI (fun x17_ => mo_gC (mo_bnx (moX6_number D.2 n u11 b0 (0 : Int32) (x17_ - 1)) m11 (fun r18 u18 m18 => mo_gC (mo_bnd (moX4_with u18 x14_ x1 r18) m18 (fun r19 u19 m19 => mo_pV m19 (fun h20 m20 => mo_gC (mo_bnd (moX6_isNumberNext n h20 b0) m20 (fun r21 u21 m21 => mo_ite (mo_ret m21) (mo_tr m21 (ml1 u21 b0 (x1 + 1)))))))))))))))))))) (mo_gQ (fun x23_ => mo_gI (fun x24_ => mo_ite (mo_gI (fun x26_ => mo_gC (mo_bnx (moX6_require D.2 u8 b0 (0 : Int32) ((-2) : Int32) x26_) hle_rf (fun r27 u27 m27 => mo_gQ (fun x28_ => mo_gQ (fun x29_ => mo_gQ (fun x30_ => mo_gQ (fun x31_ => mo_gQ (fun x32_ => mo_gI (fun x33_ => mo_gC (mo_bnx (moX6_number D.2 n u27 b0 (0 : Int32) (x33_ - 1)) m27 (fun r34 u34 m34 => mo_gC (mo_bnd (moX4_with u34 x30_ x1 r34) m34 (fun r35 u35 m35 => mo_pV m35 (fun h36 m36 => mo_gC (mo_bnd (moX6_isNumberNext n h36 b0) m36 (fun r37 u37 m37 => mo_ite (mo_ret m37) (mo_tr m37 (ml1 u37 b0 (x1 + 1)))))))))))))))))))) (mo_gI (fun x39_ => mo_gC (mo_bnx (moX6_require D.2 u8 b0 (1 : Int32) ((-2) : Int32) x39_) hle_rf (fun r40 u40 m40 => mo_gQ (fun x41_ => mo_gQ (fun x42_ => mo_gQ (fun x43_ => mo_gQ (fun x44_ => mo_gQ (fun x45_ => mo_gI (fun x46_ => mo_gC (mo_bnx (moX6_number D.2 n u40 b0 (0 : Int32) (x46_ - 1)) m40 (fun r47 u47 m47 => mo_gC (mo_bnd (moX4_with u47 x43_ x1 r47) m47 (fun r48 u48 m48 => mo_pV m48 (fun h49 m49 => mo_gC (mo_bnd (moX6_isNumberNext n h49 b0) m49 (fun r50 u50 m50 => mo_ite (mo_ret m50) (mo_tr m50 (ml1 u50 b0 (x1 + 1)))))))))))))))))))))))) _ hF
      obtain ⟨mc8, ms8, hmc8, hms8⟩ := up_of (moX6_isNumberNext n h b0 _ e8)
      replace hc := cst_call hc hmc8 hms8
      refine h_calli (va_runV (As := []) (rest := []) ⟨hx, hb, hml, hown, hts⟩ (mgX6_isNumberNext l D A h n b0 _ e8 mc8 ms8 hmc8 hms8) (cwV 0 hts (lw_V q1522 q1524 qs32 q134 q1525) rfl rfl rfl (by decide +kernel) ⟨Nat.le_of_ble_eq_true rfl, Nat.le_of_ble_eq_true rfl⟩) (h_preV hGr hr hS ec8 (by decide) (q := (RX6, TX6, 5)) rfl _) rfl rfl hl.1 rfl (lv_room (Nat.le_of_ble_eq_true rfl)) dX6_start_26 ⟨(bud hc mm8 hmc hms).1, (bud hc mm8 hmc hms).2⟩) hS (fun rr uu H locs hw hr hS => ?_)
      obtain rfl : u8 = uu := (congrArg Prod.snd hw).symm
      obtain rfl : r8 = rr := (congrArg Prod.fst hw).symm
      refine lv_if_eq (tgt := 47) hx hb dX6_start_29 (by decide) (fun c9 => ?_) (fun c9 => ?_)
      · replace hF := it_t c9 hF
        refine lv_iconst (v := 0) hx hb dX6_start_47 (by decide) ?_
        refine lv_istore_n (lv' := [(2, .int 0), (0, .ref b0), (1, .int x1)]) hx hb dX6_start_48 rfl hl (by decide) rfl (fun ls hl => ?_)
        refine lv_aload_n hx hb dX6_start_49 rfl (lv_at hl 1 rfl) ?_
        refine lv_iload_n hx hb dX6_start_50 rfl (lv_at hl 0 rfl) ?_
        refine lv_bipush (v := (-2)) hx hb dX6_start_51 (by decide) ?_
        refine lv_aload_n hx hb dX6_start_53 rfl (lv_at hl 1 rfl) ?_
        obtain ⟨fs10, x10_, e10, f10, hF⟩ := gI_s hF
        refine h_get (C := RX6) (T := TX6) (N := 5) hx hb hts in_X6 hown hGr hr e10 (by decide) rfl 2 (by decide) (hts _ q1439) (fun _ h9 => h9) f10 dX6_start_54 ?_
        obtain ⟨fc11, ec11, hF⟩ := gC_s hF
        rcases bnx_s hF with ⟨r11, u11, e11, hF⟩ | ⟨q11, u11, e11, hF⟩
        rotate_left
        · obtain ⟨mc11, ms11, hmc11, hms11⟩ := up_of (moX6_require D.2 u8 b0 (0 : Int32) ((-2) : Int32) x10_ _ e11)
          have hcx := cst_call hc hmc11 hms11
          have bx11 := bud_r hcx hF hmc hms
          refine h_xthrv rfl (vx_runV (As := [.int 0, .int (-2), .int x10_]) (rest := []) ⟨hx, hb, hml, hown, hts⟩ (mgX6_require l hl0 D A u8 b0 (0 : Int32) ((-2) : Int32) x10_ _ e11 mc11 ms11 hmc11 hms11) (cwV 3 hts (lw_V q1485 q1487 qs30 q134 q1488) rfl rfl rfl (by decide +kernel) ⟨Nat.le_of_ble_eq_true rfl, Nat.le_of_ble_eq_true rfl⟩) (h_preV hGr hr hS ec11 (by decide) (q := (RX6, TX6, 5)) rfl _) rfl rfl hl.1 rfl (lv_room (Nat.le_of_ble_eq_true rfl)) dX6_start_57 ⟨bx11.1, bx11.2⟩) hS (fun E9 q9 u9 H locs ce9 e1 e2 e3 hr hS h1 h2 h3 => ?_)
          exact h_xpass hGr htb hlocks hF bx11 e1 e2 e3 hr hS h1 h2 h3
        have mm11 : hle u11 out.2 := (show Mo u11 _ from mo_gQ (fun x12_ => mo_gQ (fun x13_ => mo_gQ (fun x14_ => mo_gQ (fun x15_ => mo_gQ (fun x16_ => mo_gI (fun x17_ => mo_gC (mo_bnx (moX6_number D.2 n u11 b0 (0 : Int32) (x17_ - 1)) hle_rf (fun r18 u18 m18 => mo_gC (mo_bnd (moX4_with u18 x14_ x1 r18) m18 (fun r19 u19 m19 => mo_pV m19 (fun h20 m20 => mo_gC (mo_bnd (moX6_isNumberNext n h20 b0) m20 (fun r21 u21 m21 => mo_ite (mo_ret m21) (mo_tr m21 (ml1 u21 b0 (x1 + 1))))))))))))))))) _ hF
        obtain ⟨mc11, ms11, hmc11, hms11⟩ := up_of (moX6_require D.2 u8 b0 (0 : Int32) ((-2) : Int32) x10_ _ e11)
        replace hc := cst_call hc hmc11 hms11
        refine h_xretv rfl (vx_runV (As := [.int 0, .int (-2), .int x10_]) (rest := []) ⟨hx, hb, hml, hown, hts⟩ (mgX6_require l hl0 D A u8 b0 (0 : Int32) ((-2) : Int32) x10_ _ e11 mc11 ms11 hmc11 hms11) (cwV 3 hts (lw_V q1485 q1487 qs30 q134 q1488) rfl rfl rfl (by decide +kernel) ⟨Nat.le_of_ble_eq_true rfl, Nat.le_of_ble_eq_true rfl⟩) (h_preV hGr hr hS ec11 (by decide) (q := (RX6, TX6, 5)) rfl _) rfl rfl hl.1 rfl (lv_room (Nat.le_of_ble_eq_true rfl)) dX6_start_57 ⟨(bud hc mm11 hmc hms).1, (bud hc mm11 hmc hms).2⟩) hS (fun H locs hr hS => ?_)
        refine lv_aload_n hx hb dX6_start_60 rfl (lv_at hl 1 rfl) ?_
        obtain ⟨fs12, x12_, e12, f12, hF⟩ := gQ_s hF
        refine h_get (C := RX6) (T := TX6) (N := 5) hx hb hts in_X6 hown hGr hr e12 (by decide) rfl 1 (by decide) (hts _ q1438) (fun _ h9 => h9) f12 dX6_start_61 ?_
        refine lv_aload_n hx hb dX6_start_64 rfl (lv_at hl 1 rfl) ?_
        obtain ⟨fs13, x13_, e13, f13, hF⟩ := gQ_s hF
        refine h_get (C := RX6) (T := TX6) (N := 5) hx hb hts in_X6 hown hGr hr e13 (by decide) rfl 1 (by decide) (hts _ q1438) (fun _ h9 => h9) f13 dX6_start_65 ?_
        obtain ⟨fs14, x14_, e14, f14, hF⟩ := gQ_s hF
        refine h_getN (C := RX2) (T := TX2) (N := 11) hx hb hts in_X2 hown hGr hr e14 (by decide) rfl 3 (by decide) (va_Nw.use rfl (hGr.nw q571 rfl)) (fun _ h9 => h9) f14 dX6_start_68 ?_
        refine lv_iload_n hx hb dX6_start_71 rfl (lv_at hl 2 rfl) ?_
        refine lv_aload_n hx hb dX6_start_72 rfl (lv_at hl 1 rfl) ?_
        refine lv_iconst (v := 0) hx hb dX6_start_73 (by decide) ?_
        refine lv_aload_n hx hb dX6_start_74 rfl (lv_at hl 1 rfl) ?_
        obtain ⟨fs15, x15_, e15, f15, hF⟩ := gQ_s hF
        refine h_get (C := RX6) (T := TX6) (N := 5) hx hb hts in_X6 hown hGr hr e15 (by decide) rfl 1 (by decide) (hts _ q1438) (fun _ h9 => h9) f15 dX6_start_75 ?_
        obtain ⟨fs16, x16_, e16, f16, hF⟩ := gQ_s hF
        refine h_getN (C := RX2) (T := TX2) (N := 11) hx hb hts in_X2 hown hGr hr e16 (by decide) rfl 0 (by decide) (va_Nw.use rfl (hGr.nw q563 rfl)) (fun _ h9 => h9) f16 dX6_start_78 ?_
        obtain ⟨fs17, x17_, e17, f17, hF⟩ := gI_s hF
        refine h_getN (C := RX3) (T := TX3) (N := 2) hx hb hts in_X3 hown hGr hr e17 (by decide) rfl 0 (by decide) (va_Nw.use rfl (hGr.nw q167 rfl)) (fun _ h9 => h9) f17 dX6_start_81 ?_
        refine lv_iconst (v := 1) hx hb dX6_start_84 (by decide) ?_
        refine lv_isub hx hb dX6_start_85 ?_
        obtain ⟨fc18, ec18, hF⟩ := gC_s hF
        rcases bnx_s hF with ⟨r18, u18, e18, hF⟩ | ⟨q18, u18, e18, hF⟩
        rotate_left
        · obtain ⟨mc18, ms18, hmc18, hms18⟩ := up_of (moX6_number D.2 n u11 b0 (0 : Int32) (x17_ - 1) _ e18)
          have hcx := cst_call hc hmc18 hms18
          have bx18 := bud_r hcx hF hmc hms
          refine h_xthri rfl (vx_runV (As := [.int 0, .int (x17_ - 1)]) (rest := [.int x1, .ref x14_, .ref x12_]) ⟨hx, hb, hml, hown, hts⟩ (mgX6_number l hl0 D A u11 n b0 (0 : Int32) (x17_ - 1) _ e18 mc18 ms18 hmc18 hms18) (cwV 2 hts (lw_V q1518 q1520 qs31 q134 q1521) rfl rfl rfl (by decide +kernel) ⟨Nat.le_of_ble_eq_true rfl, Nat.le_of_ble_eq_true rfl⟩) (h_preV hGr hr hS ec18 (by decide) (q := (RX6, TX6, 5)) rfl _) rfl rfl hl.1 rfl (lv_room (Nat.le_of_ble_eq_true rfl)) dX6_start_86 ⟨bx18.1, bx18.2⟩) hS (fun E9 q9 u9 H locs ce9 e1 e2 e3 hr hS h1 h2 h3 => ?_)
          exact h_xpass hGr htb hlocks hF bx18 e1 e2 e3 hr hS h1 h2 h3
        have mm18 : hle u18 out.2 := (show Mo u18 _ from mo_gC (mo_bnd (moX4_with u18 x14_ x1 r18) hle_rf (fun r19 u19 m19 => mo_pV m19 (fun h20 m20 => mo_gC (mo_bnd (moX6_isNumberNext n h20 b0) m20 (fun r21 u21 m21 => mo_ite (mo_ret m21) (mo_tr m21 (ml1 u21 b0 (x1 + 1))))))))) _ hF
        obtain ⟨mc18, ms18, hmc18, hms18⟩ := up_of (moX6_number D.2 n u11 b0 (0 : Int32) (x17_ - 1) _ e18)
        replace hc := cst_call hc hmc18 hms18
        refine h_xreti rfl (vx_runV (As := [.int 0, .int (x17_ - 1)]) (rest := [.int x1, .ref x14_, .ref x12_]) ⟨hx, hb, hml, hown, hts⟩ (mgX6_number l hl0 D A u11 n b0 (0 : Int32) (x17_ - 1) _ e18 mc18 ms18 hmc18 hms18) (cwV 2 hts (lw_V q1518 q1520 qs31 q134 q1521) rfl rfl rfl (by decide +kernel) ⟨Nat.le_of_ble_eq_true rfl, Nat.le_of_ble_eq_true rfl⟩) (h_preV hGr hr hS ec18 (by decide) (q := (RX6, TX6, 5)) rfl _) rfl rfl hl.1 rfl (lv_room (Nat.le_of_ble_eq_true rfl)) dX6_start_86 ⟨(bud hc mm18 hmc hms).1, (bud hc mm18 hmc hms).2⟩) hS (fun H locs hr hS => ?_)
        obtain ⟨fc19, ec19, hF⟩ := gC_s hF
        obtain ⟨r19, u19, e19, hF⟩ := bnd_s hF
        have mm19 : hle u19 out.2 := (show Mo u19 _ from mo_pV hle_rf (fun h20 m20 => mo_gC (mo_bnd (moX6_isNumberNext n h20 b0) m20 (fun r21 u21 m21 => mo_ite (mo_ret m21) (mo_tr m21 (ml1 u21 b0 (x1 + 1))))))) _ hF
        obtain ⟨mc19, ms19, hmc19, hms19⟩ := up_of (moX4_with u18 x14_ x1 r18 _ e19)
        replace hc := cst_call hc hmc19 hms19
        refine h_callr (va_runV (As := [.int x1, .int r18]) (rest := [.ref x12_]) ⟨hx, hb, hml, hown, hts⟩ (mgX4_with l D A u18 x14_ x1 r18 _ e19 mc19 ms19 hmc19 hms19) (cwV 2 hts (lw_V q1623 q1624 q1625 q123 q1626) rfl rfl rfl (by decide +kernel) ⟨Nat.le_of_ble_eq_true rfl, Nat.le_of_ble_eq_true rfl⟩) (h_preV hGr hr hS ec19 (by decide) (q := (RX4, TX4, 1)) rfl _) rfl rfl hl.1 rfl (lv_room (Nat.le_of_ble_eq_true rfl)) dX6_start_89 ⟨(bud hc mm19 hmc hms).1, (bud hc mm19 hmc hms).2⟩) hS (fun rr uu H locs hw hr hS => ?_)
        obtain rfl : u19 = uu := (congrArg Prod.snd hw).symm
        obtain rfl : r19 = rr := (congrArg Prod.fst hw).symm
        obtain ⟨fs20, e20, k20, lo20, hF⟩ := pV_s hF
        obtain ⟨h20, eh20⟩ : ∃ z, z = hPut u19 x12_ (.inr (2, fs20.set 3 (.ref r19))) := ⟨_, rfl⟩
        rw [← eh20] at hF
        refine h_putN (C := RX2) (T := TX2) (N := 11) hx hb hts in_X2 tyX2 tyX2_ok nmX2 hown hGr hr hS e20 (by decide) rfl 3 (by decide) (va_Nw.use rfl (hGr.nw q571 rfl)) (fun _ h9 => h9) rfl (tyX2_ok 3 (by decide)) rfl rfl k20 lo20 dX6_start_92 (fun H locs hr hS => ?_)
        rw [← eh20] at hr
        replace hc := cst_put hc eh20
        refine lv_iinc (v := (x1 + 1)) (lv' := [(1, .int (x1 + 1)), (2, .int 0), (0, .ref b0)]) hx hb dX6_start_95 hl (k := 2) rfl rfl (by decide) rfl (fun ls hl => ?_)
        refine lv_aload_n hx hb dX6_start_98 rfl (lv_at hl 2 rfl) ?_
        obtain ⟨fc21, ec21, hF⟩ := gC_s hF
        obtain ⟨r21, u21, e21, hF⟩ := bnd_s hF
        have mm21 : hle u21 out.2 := (show Mo u21 _ from mo_ite (mo_ret hle_rf) (mo_tr hle_rf (ml1 u21 b0 (x1 + 1)))) _ hF
        obtain ⟨mc21, ms21, hmc21, hms21⟩ := up_of (moX6_isNumberNext n h20 b0 _ e21)
        replace hc := cst_call hc hmc21 hms21
        refine h_calli (va_runV (As := []) (rest := []) ⟨hx, hb, hml, hown, hts⟩ (mgX6_isNumberNext l D A h20 n b0 _ e21 mc21 ms21 hmc21 hms21) (cwV 0 hts (lw_V q1522 q1524 qs32 q134 q1525) rfl rfl rfl (by decide +kernel) ⟨Nat.le_of_ble_eq_true rfl, Nat.le_of_ble_eq_true rfl⟩) (h_preV hGr hr hS ec21 (by decide) (q := (RX6, TX6, 5)) rfl _) rfl rfl hl.1 rfl (lv_room (Nat.le_of_ble_eq_true rfl)) dX6_start_99 ⟨(bud hc mm21 hmc hms).1, (bud hc mm21 hmc hms).2⟩) hS (fun rr uu H locs hw hr hS => ?_)
        obtain rfl : u21 = uu := (congrArg Prod.snd hw).symm
        obtain rfl : r21 = rr := (congrArg Prod.fst hw).symm
        refine lv_if_ne (tgt := 25) hx hb dX6_start_102 (by decide) (fun c22 => ?_) (fun c22 => ?_)
        · replace hF := it_f c22 hF
          exact lp1 u21 b0 (x1 + 1) hF _ _ _ _ hc hr hS ls (lv_sub hl [2, 0] rfl)
        · replace hF := it_t c22 hF
          have bz := bud_r hc hF hmc hms
          refine vx_ret ?_
          refine W.widen (k := mc) (n := ms) bz.1 bz.2 ?_
          exact W.vret hx hb hret (fun t ht hWm => ⟨⟨u21, rfl, Option.some.inj hF, h_end hGr hr hS ht hWm⟩, hS.F ht⟩) hS.2.2 dX6_start_105
      · replace hF := it_f c9 hF
        refine lv_iload_n hx hb dX6_start_32 rfl (lv_at hl 1 rfl) ?_
        refine lv_aload_n hx hb dX6_start_33 rfl (lv_at hl 0 rfl) ?_
        obtain ⟨fs23, x23_, e23, f23, hF⟩ := gQ_s hF
        refine h_get (C := RX6) (T := TX6) (N := 5) hx hb hts in_X6 hown hGr hr e23 (by decide) rfl 1 (by decide) (hts _ q1438) (fun _ h9 => h9) f23 dX6_start_34 ?_
        obtain ⟨fs24, x24_, e24, f24, hF⟩ := gI_s hF
        refine h_getN (C := RX2) (T := TX2) (N := 11) hx hb hts in_X2 hown hGr hr e24 (by decide) rfl 1 (by decide) (va_Nw.use rfl (hGr.nw q566 rfl)) (fun _ h9 => h9) f24 dX6_start_37 ?_
        refine lv_icmp_ge (tgt := 47) hx hb dX6_start_40 (by decide) (fun c25 => ?_) (fun c25 => ?_)
        · replace hF := it_t c25 hF
          refine lv_iconst (v := 0) hx hb dX6_start_47 (by decide) ?_
          refine lv_istore_n (lv' := [(2, .int 0), (0, .ref b0), (1, .int x1)]) hx hb dX6_start_48 rfl hl (by decide) rfl (fun ls hl => ?_)
          refine lv_aload_n hx hb dX6_start_49 rfl (lv_at hl 1 rfl) ?_
          refine lv_iload_n hx hb dX6_start_50 rfl (lv_at hl 0 rfl) ?_
          refine lv_bipush (v := (-2)) hx hb dX6_start_51 (by decide) ?_
          refine lv_aload_n hx hb dX6_start_53 rfl (lv_at hl 1 rfl) ?_
          obtain ⟨fs26, x26_, e26, f26, hF⟩ := gI_s hF
          refine h_get (C := RX6) (T := TX6) (N := 5) hx hb hts in_X6 hown hGr hr e26 (by decide) rfl 2 (by decide) (hts _ q1439) (fun _ h9 => h9) f26 dX6_start_54 ?_
          obtain ⟨fc27, ec27, hF⟩ := gC_s hF
          rcases bnx_s hF with ⟨r27, u27, e27, hF⟩ | ⟨q27, u27, e27, hF⟩
          rotate_left
          · obtain ⟨mc27, ms27, hmc27, hms27⟩ := up_of (moX6_require D.2 u8 b0 (0 : Int32) ((-2) : Int32) x26_ _ e27)
            have hcx := cst_call hc hmc27 hms27
            have bx27 := bud_r hcx hF hmc hms
            refine h_xthrv rfl (vx_runV (As := [.int 0, .int (-2), .int x26_]) (rest := []) ⟨hx, hb, hml, hown, hts⟩ (mgX6_require l hl0 D A u8 b0 (0 : Int32) ((-2) : Int32) x26_ _ e27 mc27 ms27 hmc27 hms27) (cwV 3 hts (lw_V q1485 q1487 qs30 q134 q1488) rfl rfl rfl (by decide +kernel) ⟨Nat.le_of_ble_eq_true rfl, Nat.le_of_ble_eq_true rfl⟩) (h_preV hGr hr hS ec27 (by decide) (q := (RX6, TX6, 5)) rfl _) rfl rfl hl.1 rfl (lv_room (Nat.le_of_ble_eq_true rfl)) dX6_start_57 ⟨bx27.1, bx27.2⟩) hS (fun E9 q9 u9 H locs ce9 e1 e2 e3 hr hS h1 h2 h3 => ?_)
            exact h_xpass hGr htb hlocks hF bx27 e1 e2 e3 hr hS h1 h2 h3
          have mm27 : hle u27 out.2 := (show Mo u27 _ from mo_gQ (fun x28_ => mo_gQ (fun x29_ => mo_gQ (fun x30_ => mo_gQ (fun x31_ => mo_gQ (fun x32_ => mo_gI (fun x33_ => mo_gC (mo_bnx (moX6_number D.2 n u27 b0 (0 : Int32) (x33_ - 1)) hle_rf (fun r34 u34 m34 => mo_gC (mo_bnd (moX4_with u34 x30_ x1 r34) m34 (fun r35 u35 m35 => mo_pV m35 (fun h36 m36 => mo_gC (mo_bnd (moX6_isNumberNext n h36 b0) m36 (fun r37 u37 m37 => mo_ite (mo_ret m37) (mo_tr m37 (ml1 u37 b0 (x1 + 1))))))))))))))))) _ hF
          obtain ⟨mc27, ms27, hmc27, hms27⟩ := up_of (moX6_require D.2 u8 b0 (0 : Int32) ((-2) : Int32) x26_ _ e27)
          replace hc := cst_call hc hmc27 hms27
          refine h_xretv rfl (vx_runV (As := [.int 0, .int (-2), .int x26_]) (rest := []) ⟨hx, hb, hml, hown, hts⟩ (mgX6_require l hl0 D A u8 b0 (0 : Int32) ((-2) : Int32) x26_ _ e27 mc27 ms27 hmc27 hms27) (cwV 3 hts (lw_V q1485 q1487 qs30 q134 q1488) rfl rfl rfl (by decide +kernel) ⟨Nat.le_of_ble_eq_true rfl, Nat.le_of_ble_eq_true rfl⟩) (h_preV hGr hr hS ec27 (by decide) (q := (RX6, TX6, 5)) rfl _) rfl rfl hl.1 rfl (lv_room (Nat.le_of_ble_eq_true rfl)) dX6_start_57 ⟨(bud hc mm27 hmc hms).1, (bud hc mm27 hmc hms).2⟩) hS (fun H locs hr hS => ?_)
          refine lv_aload_n hx hb dX6_start_60 rfl (lv_at hl 1 rfl) ?_
          obtain ⟨fs28, x28_, e28, f28, hF⟩ := gQ_s hF
          refine h_get (C := RX6) (T := TX6) (N := 5) hx hb hts in_X6 hown hGr hr e28 (by decide) rfl 1 (by decide) (hts _ q1438) (fun _ h9 => h9) f28 dX6_start_61 ?_
          refine lv_aload_n hx hb dX6_start_64 rfl (lv_at hl 1 rfl) ?_
          obtain ⟨fs29, x29_, e29, f29, hF⟩ := gQ_s hF
          refine h_get (C := RX6) (T := TX6) (N := 5) hx hb hts in_X6 hown hGr hr e29 (by decide) rfl 1 (by decide) (hts _ q1438) (fun _ h9 => h9) f29 dX6_start_65 ?_
          obtain ⟨fs30, x30_, e30, f30, hF⟩ := gQ_s hF
          refine h_getN (C := RX2) (T := TX2) (N := 11) hx hb hts in_X2 hown hGr hr e30 (by decide) rfl 3 (by decide) (va_Nw.use rfl (hGr.nw q571 rfl)) (fun _ h9 => h9) f30 dX6_start_68 ?_
          refine lv_iload_n hx hb dX6_start_71 rfl (lv_at hl 2 rfl) ?_
          refine lv_aload_n hx hb dX6_start_72 rfl (lv_at hl 1 rfl) ?_
          refine lv_iconst (v := 0) hx hb dX6_start_73 (by decide) ?_
          refine lv_aload_n hx hb dX6_start_74 rfl (lv_at hl 1 rfl) ?_
          obtain ⟨fs31, x31_, e31, f31, hF⟩ := gQ_s hF
          refine h_get (C := RX6) (T := TX6) (N := 5) hx hb hts in_X6 hown hGr hr e31 (by decide) rfl 1 (by decide) (hts _ q1438) (fun _ h9 => h9) f31 dX6_start_75 ?_
          obtain ⟨fs32, x32_, e32, f32, hF⟩ := gQ_s hF
          refine h_getN (C := RX2) (T := TX2) (N := 11) hx hb hts in_X2 hown hGr hr e32 (by decide) rfl 0 (by decide) (va_Nw.use rfl (hGr.nw q563 rfl)) (fun _ h9 => h9) f32 dX6_start_78 ?_
          obtain ⟨fs33, x33_, e33, f33, hF⟩ := gI_s hF
          refine h_getN (C := RX3) (T := TX3) (N := 2) hx hb hts in_X3 hown hGr hr e33 (by decide) rfl 0 (by decide) (va_Nw.use rfl (hGr.nw q167 rfl)) (fun _ h9 => h9) f33 dX6_start_81 ?_
          refine lv_iconst (v := 1) hx hb dX6_start_84 (by decide) ?_
          refine lv_isub hx hb dX6_start_85 ?_
          obtain ⟨fc34, ec34, hF⟩ := gC_s hF
          rcases bnx_s hF with ⟨r34, u34, e34, hF⟩ | ⟨q34, u34, e34, hF⟩
          rotate_left
          · obtain ⟨mc34, ms34, hmc34, hms34⟩ := up_of (moX6_number D.2 n u27 b0 (0 : Int32) (x33_ - 1) _ e34)
            have hcx := cst_call hc hmc34 hms34
            have bx34 := bud_r hcx hF hmc hms
            refine h_xthri rfl (vx_runV (As := [.int 0, .int (x33_ - 1)]) (rest := [.int x1, .ref x30_, .ref x28_]) ⟨hx, hb, hml, hown, hts⟩ (mgX6_number l hl0 D A u27 n b0 (0 : Int32) (x33_ - 1) _ e34 mc34 ms34 hmc34 hms34) (cwV 2 hts (lw_V q1518 q1520 qs31 q134 q1521) rfl rfl rfl (by decide +kernel) ⟨Nat.le_of_ble_eq_true rfl, Nat.le_of_ble_eq_true rfl⟩) (h_preV hGr hr hS ec34 (by decide) (q := (RX6, TX6, 5)) rfl _) rfl rfl hl.1 rfl (lv_room (Nat.le_of_ble_eq_true rfl)) dX6_start_86 ⟨bx34.1, bx34.2⟩) hS (fun E9 q9 u9 H locs ce9 e1 e2 e3 hr hS h1 h2 h3 => ?_)
            exact h_xpass hGr htb hlocks hF bx34 e1 e2 e3 hr hS h1 h2 h3
          have mm34 : hle u34 out.2 := (show Mo u34 _ from mo_gC (mo_bnd (moX4_with u34 x30_ x1 r34) hle_rf (fun r35 u35 m35 => mo_pV m35 (fun h36 m36 => mo_gC (mo_bnd (moX6_isNumberNext n h36 b0) m36 (fun r37 u37 m37 => mo_ite (mo_ret m37) (mo_tr m37 (ml1 u37 b0 (x1 + 1))))))))) _ hF
          obtain ⟨mc34, ms34, hmc34, hms34⟩ := up_of (moX6_number D.2 n u27 b0 (0 : Int32) (x33_ - 1) _ e34)
          replace hc := cst_call hc hmc34 hms34
          refine h_xreti rfl (vx_runV (As := [.int 0, .int (x33_ - 1)]) (rest := [.int x1, .ref x30_, .ref x28_]) ⟨hx, hb, hml, hown, hts⟩ (mgX6_number l hl0 D A u27 n b0 (0 : Int32) (x33_ - 1) _ e34 mc34 ms34 hmc34 hms34) (cwV 2 hts (lw_V q1518 q1520 qs31 q134 q1521) rfl rfl rfl (by decide +kernel) ⟨Nat.le_of_ble_eq_true rfl, Nat.le_of_ble_eq_true rfl⟩) (h_preV hGr hr hS ec34 (by decide) (q := (RX6, TX6, 5)) rfl _) rfl rfl hl.1 rfl (lv_room (Nat.le_of_ble_eq_true rfl)) dX6_start_86 ⟨(bud hc mm34 hmc hms).1, (bud hc mm34 hmc hms).2⟩) hS (fun H locs hr hS => ?_)
          obtain ⟨fc35, ec35, hF⟩ := gC_s hF
          obtain ⟨r35, u35, e35, hF⟩ := bnd_s hF
          have mm35 : hle u35 out.2 := (show Mo u35 _ from mo_pV hle_rf (fun h36 m36 => mo_gC (mo_bnd (moX6_isNumberNext n h36 b0) m36 (fun r37 u37 m37 => mo_ite (mo_ret m37) (mo_tr m37 (ml1 u37 b0 (x1 + 1))))))) _ hF
          obtain ⟨mc35, ms35, hmc35, hms35⟩ := up_of (moX4_with u34 x30_ x1 r34 _ e35)
          replace hc := cst_call hc hmc35 hms35
          refine h_callr (va_runV (As := [.int x1, .int r34]) (rest := [.ref x28_]) ⟨hx, hb, hml, hown, hts⟩ (mgX4_with l D A u34 x30_ x1 r34 _ e35 mc35 ms35 hmc35 hms35) (cwV 2 hts (lw_V q1623 q1624 q1625 q123 q1626) rfl rfl rfl (by decide +kernel) ⟨Nat.le_of_ble_eq_true rfl, Nat.le_of_ble_eq_true rfl⟩) (h_preV hGr hr hS ec35 (by decide) (q := (RX4, TX4, 1)) rfl _) rfl rfl hl.1 rfl (lv_room (Nat.le_of_ble_eq_true rfl)) dX6_start_89 ⟨(bud hc mm35 hmc hms).1, (bud hc mm35 hmc hms).2⟩) hS (fun rr uu H locs hw hr hS => ?_)
          obtain rfl : u35 = uu := (congrArg Prod.snd hw).symm
          obtain rfl : r35 = rr := (congrArg Prod.fst hw).symm
          obtain ⟨fs36, e36, k36, lo36, hF⟩ := pV_s hF
          obtain ⟨h36, eh36⟩ : ∃ z, z = hPut u35 x28_ (.inr (2, fs36.set 3 (.ref r35))) := ⟨_, rfl⟩
          rw [← eh36] at hF
          refine h_putN (C := RX2) (T := TX2) (N := 11) hx hb hts in_X2 tyX2 tyX2_ok nmX2 hown hGr hr hS e36 (by decide) rfl 3 (by decide) (va_Nw.use rfl (hGr.nw q571 rfl)) (fun _ h9 => h9) rfl (tyX2_ok 3 (by decide)) rfl rfl k36 lo36 dX6_start_92 (fun H locs hr hS => ?_)
          rw [← eh36] at hr
          replace hc := cst_put hc eh36
          refine lv_iinc (v := (x1 + 1)) (lv' := [(1, .int (x1 + 1)), (2, .int 0), (0, .ref b0)]) hx hb dX6_start_95 hl (k := 2) rfl rfl (by decide) rfl (fun ls hl => ?_)
          refine lv_aload_n hx hb dX6_start_98 rfl (lv_at hl 2 rfl) ?_
          obtain ⟨fc37, ec37, hF⟩ := gC_s hF
          obtain ⟨r37, u37, e37, hF⟩ := bnd_s hF
          have mm37 : hle u37 out.2 := (show Mo u37 _ from mo_ite (mo_ret hle_rf) (mo_tr hle_rf (ml1 u37 b0 (x1 + 1)))) _ hF
          obtain ⟨mc37, ms37, hmc37, hms37⟩ := up_of (moX6_isNumberNext n h36 b0 _ e37)
          replace hc := cst_call hc hmc37 hms37
          refine h_calli (va_runV (As := []) (rest := []) ⟨hx, hb, hml, hown, hts⟩ (mgX6_isNumberNext l D A h36 n b0 _ e37 mc37 ms37 hmc37 hms37) (cwV 0 hts (lw_V q1522 q1524 qs32 q134 q1525) rfl rfl rfl (by decide +kernel) ⟨Nat.le_of_ble_eq_true rfl, Nat.le_of_ble_eq_true rfl⟩) (h_preV hGr hr hS ec37 (by decide) (q := (RX6, TX6, 5)) rfl _) rfl rfl hl.1 rfl (lv_room (Nat.le_of_ble_eq_true rfl)) dX6_start_99 ⟨(bud hc mm37 hmc hms).1, (bud hc mm37 hmc hms).2⟩) hS (fun rr uu H locs hw hr hS => ?_)
          obtain rfl : u37 = uu := (congrArg Prod.snd hw).symm
          obtain rfl : r37 = rr := (congrArg Prod.fst hw).symm
          refine lv_if_ne (tgt := 25) hx hb dX6_start_102 (by decide) (fun c38 => ?_) (fun c38 => ?_)
          · replace hF := it_f c38 hF
            exact lp1 u37 b0 (x1 + 1) hF _ _ _ _ hc hr hS ls (lv_sub hl [2, 0] rfl)
          · replace hF := it_t c38 hF
            have bz := bud_r hc hF hmc hms
            refine vx_ret ?_
            refine W.widen (k := mc) (n := ms) bz.1 bz.2 ?_
            exact W.vret hx hb hret (fun t ht hWm => ⟨⟨u37, rfl, Option.some.inj hF, h_end hGr hr hS ht hWm⟩, hS.F ht⟩) hS.2.2 dX6_start_105
        · replace hF := it_f c25 hF
          refine lv_iconst (v := 1) hx hb dX6_start_43 (by decide) ?_
          refine lv_goto (tgt := 48) hx hb dX6_start_44 (by decide) ?_
          refine lv_istore_n (lv' := [(2, .int 1), (0, .ref b0), (1, .int x1)]) hx hb dX6_start_48 rfl hl (by decide) rfl (fun ls hl => ?_)
          refine lv_aload_n hx hb dX6_start_49 rfl (lv_at hl 1 rfl) ?_
          refine lv_iload_n hx hb dX6_start_50 rfl (lv_at hl 0 rfl) ?_
          refine lv_bipush (v := (-2)) hx hb dX6_start_51 (by decide) ?_
          refine lv_aload_n hx hb dX6_start_53 rfl (lv_at hl 1 rfl) ?_
          obtain ⟨fs39, x39_, e39, f39, hF⟩ := gI_s hF
          refine h_get (C := RX6) (T := TX6) (N := 5) hx hb hts in_X6 hown hGr hr e39 (by decide) rfl 2 (by decide) (hts _ q1439) (fun _ h9 => h9) f39 dX6_start_54 ?_
          obtain ⟨fc40, ec40, hF⟩ := gC_s hF
          rcases bnx_s hF with ⟨r40, u40, e40, hF⟩ | ⟨q40, u40, e40, hF⟩
          rotate_left
          · obtain ⟨mc40, ms40, hmc40, hms40⟩ := up_of (moX6_require D.2 u8 b0 (1 : Int32) ((-2) : Int32) x39_ _ e40)
            have hcx := cst_call hc hmc40 hms40
            have bx40 := bud_r hcx hF hmc hms
            refine h_xthrv rfl (vx_runV (As := [.int 1, .int (-2), .int x39_]) (rest := []) ⟨hx, hb, hml, hown, hts⟩ (mgX6_require l hl0 D A u8 b0 (1 : Int32) ((-2) : Int32) x39_ _ e40 mc40 ms40 hmc40 hms40) (cwV 3 hts (lw_V q1485 q1487 qs30 q134 q1488) rfl rfl rfl (by decide +kernel) ⟨Nat.le_of_ble_eq_true rfl, Nat.le_of_ble_eq_true rfl⟩) (h_preV hGr hr hS ec40 (by decide) (q := (RX6, TX6, 5)) rfl _) rfl rfl hl.1 rfl (lv_room (Nat.le_of_ble_eq_true rfl)) dX6_start_57 ⟨bx40.1, bx40.2⟩) hS (fun E9 q9 u9 H locs ce9 e1 e2 e3 hr hS h1 h2 h3 => ?_)
            exact h_xpass hGr htb hlocks hF bx40 e1 e2 e3 hr hS h1 h2 h3
          have mm40 : hle u40 out.2 := (show Mo u40 _ from mo_gQ (fun x41_ => mo_gQ (fun x42_ => mo_gQ (fun x43_ => mo_gQ (fun x44_ => mo_gQ (fun x45_ => mo_gI (fun x46_ => mo_gC (mo_bnx (moX6_number D.2 n u40 b0 (0 : Int32) (x46_ - 1)) hle_rf (fun r47 u47 m47 => mo_gC (mo_bnd (moX4_with u47 x43_ x1 r47) m47 (fun r48 u48 m48 => mo_pV m48 (fun h49 m49 => mo_gC (mo_bnd (moX6_isNumberNext n h49 b0) m49 (fun r50 u50 m50 => mo_ite (mo_ret m50) (mo_tr m50 (ml1 u50 b0 (x1 + 1))))))))))))))))) _ hF
          obtain ⟨mc40, ms40, hmc40, hms40⟩ := up_of (moX6_require D.2 u8 b0 (1 : Int32) ((-2) : Int32) x39_ _ e40)
          replace hc := cst_call hc hmc40 hms40
          refine h_xretv rfl (vx_runV (As := [.int 1, .int (-2), .int x39_]) (rest := []) ⟨hx, hb, hml, hown, hts⟩ (mgX6_require l hl0 D A u8 b0 (1 : Int32) ((-2) : Int32) x39_ _ e40 mc40 ms40 hmc40 hms40) (cwV 3 hts (lw_V q1485 q1487 qs30 q134 q1488) rfl rfl rfl (by decide +kernel) ⟨Nat.le_of_ble_eq_true rfl, Nat.le_of_ble_eq_true rfl⟩) (h_preV hGr hr hS ec40 (by decide) (q := (RX6, TX6, 5)) rfl _) rfl rfl hl.1 rfl (lv_room (Nat.le_of_ble_eq_true rfl)) dX6_start_57 ⟨(bud hc mm40 hmc hms).1, (bud hc mm40 hmc hms).2⟩) hS (fun H locs hr hS => ?_)
          refine lv_aload_n hx hb dX6_start_60 rfl (lv_at hl 1 rfl) ?_
          obtain ⟨fs41, x41_, e41, f41, hF⟩ := gQ_s hF
          refine h_get (C := RX6) (T := TX6) (N := 5) hx hb hts in_X6 hown hGr hr e41 (by decide) rfl 1 (by decide) (hts _ q1438) (fun _ h9 => h9) f41 dX6_start_61 ?_
          refine lv_aload_n hx hb dX6_start_64 rfl (lv_at hl 1 rfl) ?_
          obtain ⟨fs42, x42_, e42, f42, hF⟩ := gQ_s hF
          refine h_get (C := RX6) (T := TX6) (N := 5) hx hb hts in_X6 hown hGr hr e42 (by decide) rfl 1 (by decide) (hts _ q1438) (fun _ h9 => h9) f42 dX6_start_65 ?_
          obtain ⟨fs43, x43_, e43, f43, hF⟩ := gQ_s hF
          refine h_getN (C := RX2) (T := TX2) (N := 11) hx hb hts in_X2 hown hGr hr e43 (by decide) rfl 3 (by decide) (va_Nw.use rfl (hGr.nw q571 rfl)) (fun _ h9 => h9) f43 dX6_start_68 ?_
          refine lv_iload_n hx hb dX6_start_71 rfl (lv_at hl 2 rfl) ?_
          refine lv_aload_n hx hb dX6_start_72 rfl (lv_at hl 1 rfl) ?_
          refine lv_iconst (v := 0) hx hb dX6_start_73 (by decide) ?_
          refine lv_aload_n hx hb dX6_start_74 rfl (lv_at hl 1 rfl) ?_
          obtain ⟨fs44, x44_, e44, f44, hF⟩ := gQ_s hF
          refine h_get (C := RX6) (T := TX6) (N := 5) hx hb hts in_X6 hown hGr hr e44 (by decide) rfl 1 (by decide) (hts _ q1438) (fun _ h9 => h9) f44 dX6_start_75 ?_
          obtain ⟨fs45, x45_, e45, f45, hF⟩ := gQ_s hF
          refine h_getN (C := RX2) (T := TX2) (N := 11) hx hb hts in_X2 hown hGr hr e45 (by decide) rfl 0 (by decide) (va_Nw.use rfl (hGr.nw q563 rfl)) (fun _ h9 => h9) f45 dX6_start_78 ?_
          obtain ⟨fs46, x46_, e46, f46, hF⟩ := gI_s hF
          refine h_getN (C := RX3) (T := TX3) (N := 2) hx hb hts in_X3 hown hGr hr e46 (by decide) rfl 0 (by decide) (va_Nw.use rfl (hGr.nw q167 rfl)) (fun _ h9 => h9) f46 dX6_start_81 ?_
          refine lv_iconst (v := 1) hx hb dX6_start_84 (by decide) ?_
          refine lv_isub hx hb dX6_start_85 ?_
          obtain ⟨fc47, ec47, hF⟩ := gC_s hF
          rcases bnx_s hF with ⟨r47, u47, e47, hF⟩ | ⟨q47, u47, e47, hF⟩
          rotate_left
          · obtain ⟨mc47, ms47, hmc47, hms47⟩ := up_of (moX6_number D.2 n u40 b0 (0 : Int32) (x46_ - 1) _ e47)
            have hcx := cst_call hc hmc47 hms47
            have bx47 := bud_r hcx hF hmc hms
            refine h_xthri rfl (vx_runV (As := [.int 0, .int (x46_ - 1)]) (rest := [.int x1, .ref x43_, .ref x41_]) ⟨hx, hb, hml, hown, hts⟩ (mgX6_number l hl0 D A u40 n b0 (0 : Int32) (x46_ - 1) _ e47 mc47 ms47 hmc47 hms47) (cwV 2 hts (lw_V q1518 q1520 qs31 q134 q1521) rfl rfl rfl (by decide +kernel) ⟨Nat.le_of_ble_eq_true rfl, Nat.le_of_ble_eq_true rfl⟩) (h_preV hGr hr hS ec47 (by decide) (q := (RX6, TX6, 5)) rfl _) rfl rfl hl.1 rfl (lv_room (Nat.le_of_ble_eq_true rfl)) dX6_start_86 ⟨bx47.1, bx47.2⟩) hS (fun E9 q9 u9 H locs ce9 e1 e2 e3 hr hS h1 h2 h3 => ?_)
            exact h_xpass hGr htb hlocks hF bx47 e1 e2 e3 hr hS h1 h2 h3
          have mm47 : hle u47 out.2 := (show Mo u47 _ from mo_gC (mo_bnd (moX4_with u47 x43_ x1 r47) hle_rf (fun r48 u48 m48 => mo_pV m48 (fun h49 m49 => mo_gC (mo_bnd (moX6_isNumberNext n h49 b0) m49 (fun r50 u50 m50 => mo_ite (mo_ret m50) (mo_tr m50 (ml1 u50 b0 (x1 + 1))))))))) _ hF
          obtain ⟨mc47, ms47, hmc47, hms47⟩ := up_of (moX6_number D.2 n u40 b0 (0 : Int32) (x46_ - 1) _ e47)
          replace hc := cst_call hc hmc47 hms47
          refine h_xreti rfl (vx_runV (As := [.int 0, .int (x46_ - 1)]) (rest := [.int x1, .ref x43_, .ref x41_]) ⟨hx, hb, hml, hown, hts⟩ (mgX6_number l hl0 D A u40 n b0 (0 : Int32) (x46_ - 1) _ e47 mc47 ms47 hmc47 hms47) (cwV 2 hts (lw_V q1518 q1520 qs31 q134 q1521) rfl rfl rfl (by decide +kernel) ⟨Nat.le_of_ble_eq_true rfl, Nat.le_of_ble_eq_true rfl⟩) (h_preV hGr hr hS ec47 (by decide) (q := (RX6, TX6, 5)) rfl _) rfl rfl hl.1 rfl (lv_room (Nat.le_of_ble_eq_true rfl)) dX6_start_86 ⟨(bud hc mm47 hmc hms).1, (bud hc mm47 hmc hms).2⟩) hS (fun H locs hr hS => ?_)
          obtain ⟨fc48, ec48, hF⟩ := gC_s hF
          obtain ⟨r48, u48, e48, hF⟩ := bnd_s hF
          have mm48 : hle u48 out.2 := (show Mo u48 _ from mo_pV hle_rf (fun h49 m49 => mo_gC (mo_bnd (moX6_isNumberNext n h49 b0) m49 (fun r50 u50 m50 => mo_ite (mo_ret m50) (mo_tr m50 (ml1 u50 b0 (x1 + 1))))))) _ hF
          obtain ⟨mc48, ms48, hmc48, hms48⟩ := up_of (moX4_with u47 x43_ x1 r47 _ e48)
          replace hc := cst_call hc hmc48 hms48
          refine h_callr (va_runV (As := [.int x1, .int r47]) (rest := [.ref x41_]) ⟨hx, hb, hml, hown, hts⟩ (mgX4_with l D A u47 x43_ x1 r47 _ e48 mc48 ms48 hmc48 hms48) (cwV 2 hts (lw_V q1623 q1624 q1625 q123 q1626) rfl rfl rfl (by decide +kernel) ⟨Nat.le_of_ble_eq_true rfl, Nat.le_of_ble_eq_true rfl⟩) (h_preV hGr hr hS ec48 (by decide) (q := (RX4, TX4, 1)) rfl _) rfl rfl hl.1 rfl (lv_room (Nat.le_of_ble_eq_true rfl)) dX6_start_89 ⟨(bud hc mm48 hmc hms).1, (bud hc mm48 hmc hms).2⟩) hS (fun rr uu H locs hw hr hS => ?_)
          obtain rfl : u48 = uu := (congrArg Prod.snd hw).symm
          obtain rfl : r48 = rr := (congrArg Prod.fst hw).symm
          obtain ⟨fs49, e49, k49, lo49, hF⟩ := pV_s hF
          obtain ⟨h49, eh49⟩ : ∃ z, z = hPut u48 x41_ (.inr (2, fs49.set 3 (.ref r48))) := ⟨_, rfl⟩
          rw [← eh49] at hF
          refine h_putN (C := RX2) (T := TX2) (N := 11) hx hb hts in_X2 tyX2 tyX2_ok nmX2 hown hGr hr hS e49 (by decide) rfl 3 (by decide) (va_Nw.use rfl (hGr.nw q571 rfl)) (fun _ h9 => h9) rfl (tyX2_ok 3 (by decide)) rfl rfl k49 lo49 dX6_start_92 (fun H locs hr hS => ?_)
          rw [← eh49] at hr
          replace hc := cst_put hc eh49
          refine lv_iinc (v := (x1 + 1)) (lv' := [(1, .int (x1 + 1)), (2, .int 1), (0, .ref b0)]) hx hb dX6_start_95 hl (k := 2) rfl rfl (by decide) rfl (fun ls hl => ?_)
          refine lv_aload_n hx hb dX6_start_98 rfl (lv_at hl 2 rfl) ?_
          obtain ⟨fc50, ec50, hF⟩ := gC_s hF
          obtain ⟨r50, u50, e50, hF⟩ := bnd_s hF
          have mm50 : hle u50 out.2 := (show Mo u50 _ from mo_ite (mo_ret hle_rf) (mo_tr hle_rf (ml1 u50 b0 (x1 + 1)))) _ hF
          obtain ⟨mc50, ms50, hmc50, hms50⟩ := up_of (moX6_isNumberNext n h49 b0 _ e50)
          replace hc := cst_call hc hmc50 hms50
          refine h_calli (va_runV (As := []) (rest := []) ⟨hx, hb, hml, hown, hts⟩ (mgX6_isNumberNext l D A h49 n b0 _ e50 mc50 ms50 hmc50 hms50) (cwV 0 hts (lw_V q1522 q1524 qs32 q134 q1525) rfl rfl rfl (by decide +kernel) ⟨Nat.le_of_ble_eq_true rfl, Nat.le_of_ble_eq_true rfl⟩) (h_preV hGr hr hS ec50 (by decide) (q := (RX6, TX6, 5)) rfl _) rfl rfl hl.1 rfl (lv_room (Nat.le_of_ble_eq_true rfl)) dX6_start_99 ⟨(bud hc mm50 hmc hms).1, (bud hc mm50 hmc hms).2⟩) hS (fun rr uu H locs hw hr hS => ?_)
          obtain rfl : u50 = uu := (congrArg Prod.snd hw).symm
          obtain rfl : r50 = rr := (congrArg Prod.fst hw).symm
          refine lv_if_ne (tgt := 25) hx hb dX6_start_102 (by decide) (fun c51 => ?_) (fun c51 => ?_)
          · replace hF := it_f c51 hF
            exact lp1 u50 b0 (x1 + 1) hF _ _ _ _ hc hr hS ls (lv_sub hl [2, 0] rfl)
          · replace hF := it_t c51 hF
            have bz := bud_r hc hF hmc hms
            refine vx_ret ?_
            refine W.widen (k := mc) (n := ms) bz.1 bz.2 ?_
            exact W.vret hx hb hret (fun t ht hWm => ⟨⟨u50, rfl, Option.some.inj hF, h_end hGr hr hS ht hWm⟩, hS.F ht⟩) hS.2.2 dX6_start_105
  have lp1 := loop n
  have ml1 := moX6_start_r D.2 n
  have hc : cst h0 0 0 h := by rw [eh0]; exact cst_0
  unfold GX6_start GX6_start_0 at hF
  refine lv_aload_n hx hb dX6_start_0 rfl (lv_at hl 0 rfl) ?_
  obtain ⟨fs1, x1_, e1, f1, hF⟩ := gQ_s hF
  refine h_get (C := RX6) (T := TX6) (N := 5) hx hb hts in_X6 hown hGr hr e1 (by decide) rfl 1 (by decide) (hts _ q1438) (fun _ h9 => h9) f1 dX6_start_1 ?_
  obtain ⟨a2_, h2, ea2, eh2, hF⟩ := nW_s hF
  have mm2 : hle h2 out.2 := (show Mo h2 _ from mo_gQ (fun x3_ => mo_gI (fun x4_ => mo_nA hle_rf (fun a5_ h5 m5 => mo_bnd (moX4_init h5 a2_ a5_) m5 (fun r6 u6 m6 => mo_pV m6 (fun h7 m7 => mo_tr m7 (ml1 h7 a0 (0 : Int32)))))))) _ hF
  replace hc := cst_new hc eh2
  refine h_new (C := RX4) (T := TX4) (N := 1) hx hb hts in_X4 tyX4 tyX4_ok hown (hts _ q1621) (hts _ q550) (hts _ q123) hGr hr hS (ci := 4) (by decide) rfl (fs := [.null]) (fun j hj => by match j, hj with | 0, _ => rfl | j + 1, hj => omega) (bud hc mm2 hmc hms).1 (bud hc mm2 hmc hms).2 dX6_start_4 (fun H hr hS => ?_)
  rw [← eh2] at hr
  rw [← ea2]
  refine lv_dup hx hb dX6_start_7 rfl ?_
  refine lv_aload_n hx hb dX6_start_8 rfl (lv_at hl 0 rfl) ?_
  obtain ⟨fs3, x3_, e3, f3, hF⟩ := gQ_s hF
  refine h_get (C := RX6) (T := TX6) (N := 5) hx hb hts in_X6 hown hGr hr e3 (by decide) rfl 1 (by decide) (hts _ q1438) (fun _ h9 => h9) f3 dX6_start_9 ?_
  obtain ⟨fs4, x4_, e4, f4, hF⟩ := gI_s hF
  refine h_getN (C := RX2) (T := TX2) (N := 11) hx hb hts in_X2 hown hGr hr e4 (by decide) rfl 1 (by decide) (va_Nw.use rfl (hGr.nw q566 rfl)) (fun _ h9 => h9) f4 dX6_start_12 ?_
  obtain ⟨a5_, h5, ea5, eh5, g5, hF⟩ := nA_s hF
  have mm5 : hle h5 out.2 := (show Mo h5 _ from mo_bnd (moX4_init h5 a2_ a5_) hle_rf (fun r6 u6 m6 => mo_pV m6 (fun h7 m7 => mo_tr m7 (ml1 h7 a0 (0 : Int32))))) _ hF
  replace hc := cst_new hc eh5
  refine h_newI hx hb (hts _ q177) hGr hr hS g5 (bud hc mm5 hmc hms).1 (bud hc mm5 hmc hms).2 dX6_start_15 (fun H hr hS => ?_)
  rw [← eh5] at hr
  rw [← ea5]
  obtain ⟨r6, u6, e6, hF⟩ := bnd_s hF
  have mm6 : hle u6 out.2 := (show Mo u6 _ from mo_pV hle_rf (fun h7 m7 => mo_tr m7 (ml1 h7 a0 (0 : Int32)))) _ hF
  obtain ⟨mc6, ms6, hmc6, hms6⟩ := up_of (moX4_init h5 a2_ a5_ _ e6)
  replace hc := cst_call hc hmc6 hms6
  refine h_callv (va_runI (As := [.ref a5_]) (rest := [.ref a2_, .ref x1_]) ⟨hx, hb, hml, hown, hts⟩ (mgX4_init l D A h5 a2_ a5_ _ e6 mc6 ms6 hmc6 hms6) (cwI 1 hts (lw_meth q553) rfl rfl rfl (hts _ q123) (hts _ q1622) (hts _ q552) rfl (by decide +kernel) ⟨Nat.le_of_ble_eq_true rfl, Nat.le_of_ble_eq_true rfl⟩) (h_preS hGr hr hS _) rfl rfl hl.1 rfl (lv_room (Nat.le_of_ble_eq_true rfl)) dX6_start_17 ⟨(bud hc mm6 hmc hms).1, (bud hc mm6 hmc hms).2⟩) hS (fun uu H locs hw hr hS => ?_)
  obtain rfl : u6 = uu := (congrArg Prod.snd hw).symm
  obtain ⟨fs7, e7, k7, lo7, hF⟩ := pV_s hF
  obtain ⟨h7, eh7⟩ : ∃ z, z = hPut u6 x1_ (.inr (2, fs7.set 3 (.ref a2_))) := ⟨_, rfl⟩
  rw [← eh7] at hF
  refine h_putN (C := RX2) (T := TX2) (N := 11) hx hb hts in_X2 tyX2 tyX2_ok nmX2 hown hGr hr hS e7 (by decide) rfl 3 (by decide) (va_Nw.use rfl (hGr.nw q571 rfl)) (fun _ h9 => h9) rfl (tyX2_ok 3 (by decide)) rfl rfl k7 lo7 dX6_start_20 (fun H locs hr hS => ?_)
  rw [← eh7] at hr
  replace hc := cst_put hc eh7
  refine lv_iconst (v := 0) hx hb dX6_start_23 (by decide) ?_
  refine lv_istore_n (lv' := [(1, .int 0), (0, .ref a0)]) hx hb dX6_start_24 rfl hl (by decide) rfl (fun ls hl => ?_)
  exact lp1 h7 a0 (0 : Int32) hF _ _ _ _ hc hr hS ls (lv_sub hl [1, 0] rfl)

def GX6_statement_1 (kz : Nat → Nat) (R : Nat → Hp → Nat → Nat → Int32 → Nat → Int32 → Option ((Int32 ⊕ Xq) × Hp)) (n : Nat) (h : Hp) (b0 : Nat) (b1 : Nat) (x2 : Int32) (b3 : Nat) (x4 : Int32) : Option ((Int32 ⊕ Xq) × Hp) := if x4 = 0 then gC h b0 5 (bnx (GX6_cell kz n h b0) (fun r23 u23 => gC u23 b0 5 (bnx (GX6_semicolon kz n u23 b0) (fun r24 u24 => some (.inl 0, u24))))) else if x4 = 1 then gC h b0 5 (bnx (GX6_start kz n h b0) (fun r26 u26 => gC u26 b0 5 (bnx (GX6_semicolon kz n u26 b0) (fun r27 u27 => some (.inl 0, u27))))) else if x4 = 2 then gQ h b0 5 1 (fun x29_ => gC h b0 5 (bnx (GX6_number kz n h b0 (1 : Int32) (8 : Int32)) (fun r30 u30 => pV u30 x29_ 2 4 (.int r30) (fun h31 => gC h31 b0 5 (bnx (GX6_semicolon kz n h31 b0) (fun r32 u32 => some (.inl 0, u32))))))) else if x4 = 3 then gQ h b0 5 1 (fun x34_ => gC h b0 5 (bnx (GX6_number kz n h b0 (0 : Int32) (8 : Int32)) (fun r35 u35 => pV u35 x34_ 2 5 (.int r35) (fun h36 => gC h36 b0 5 (bnx (GX6_semicolon kz n h36 b0) (fun r37 u37 => some (.inl 0, u37))))))) else if x4 = 4 then gQ h b0 5 1 (fun x39_ => pV h x39_ 2 6 (.int 1) (fun h40 => gC h40 b0 5 (bnx (GX6_semicolon kz n h40 b0) (fun r41 u41 => some (.inl 0, u41))))) else nW h 6 [.null, .null, .null, .null, .null, .int 0, .int 0, .int 0] 8 (fun a42_ h42 => bnd (GX7_init kz h42 a42_ ((-2) : Int32) x2) (fun r43 u43 => gC u43 a42_ 6 (some (.inr (4, a42_), u43))))
def GX6_statement_r (kz : Nat → Nat) : Nat → Nat → Hp → Nat → Nat → Int32 → Nat → Int32 → Option ((Int32 ⊕ Xq) × Hp)
  | 0 => fun _ _ _ _ _ _ _ => none
  | n + 1 => fun k => match k with  | _ => GX6_statement_1 kz (GX6_statement_r kz n) n
def GX6_statement_0 (kz : Nat → Nat) (R : Nat → Hp → Nat → Nat → Int32 → Nat → Int32 → Option ((Int32 ⊕ Xq) × Hp)) (n : Nat) (h : Hp) (a0 : Nat) : Option ((Int32 ⊕ Xq) × Hp) := gC h a0 5 (bnd (GX6_word n h a0) (fun r1 u1 => gI u1 a0 5 2 (fun x2_ => gI u1 a0 5 2 (fun x3_ => gC u1 r1 13 (bnd (GJ9_length u1 r1) (fun r4 u4 => pV u4 a0 5 2 (.int (x3_ + r4)) (fun h5 => gC h5 r1 13 (bnd (GJ9_hashCode n h5 r1) (fun r6 u6 => if r6 = (-337042364 : Int32) then gC u6 r1 13 (bnd (GJ9_equals n u6 r1 (kz 316)) (fun r8 u8 => if r8 = 0 then R 1 u8 a0 r1 x2_ r1 ((-1) : Int32) else R 1 u8 a0 r1 x2_ r1 (3 : Int32))) else if r6 = (3049826 : Int32) then gC u6 r1 13 (bnd (GJ9_equals n u6 r1 (kz 313)) (fun r11 u11 => if r11 = 0 then R 1 u11 a0 r1 x2_ r1 ((-1) : Int32) else R 1 u11 a0 r1 x2_ r1 (0 : Int32))) else if r6 = (3154575 : Int32) then gC u6 r1 13 (bnd (GJ9_equals n u6 r1 (kz 317)) (fun r14 u14 => if r14 = 0 then R 1 u14 a0 r1 x2_ r1 ((-1) : Int32) else R 1 u14 a0 r1 x2_ r1 (4 : Int32))) else if r6 = (102976443 : Int32) then gC u6 r1 13 (bnd (GJ9_equals n u6 r1 (kz 315)) (fun r17 u17 => if r17 = 0 then R 1 u17 a0 r1 x2_ r1 ((-1) : Int32) else R 1 u17 a0 r1 x2_ r1 (2 : Int32))) else if r6 = (109757538 : Int32) then gC u6 r1 13 (bnd (GJ9_equals n u6 r1 (kz 314)) (fun r20 u20 => if r20 = 0 then R 1 u20 a0 r1 x2_ r1 ((-1) : Int32) else R 1 u20 a0 r1 x2_ r1 (1 : Int32))) else R 1 u6 a0 r1 x2_ r1 ((-1) : Int32))))))))))
def GX6_statement (kz : Nat → Nat) (n : Nat) (h : Hp) (a0 : Nat) : Option ((Int32 ⊕ Xq) × Hp) := GX6_statement_0 kz (GX6_statement_r kz n) n h a0
theorem moX6_statement_r (kz : Nat → Nat) (n : Nat) : (∀ (h : Hp) (b0 : Nat) (b1 : Nat) (x2 : Int32) (b3 : Nat) (x4 : Int32), Mo h (GX6_statement_r kz n 1 h b0 b1 x2 b3 x4)) := by
  induction n with
  | zero => exact (fun _ _ _ _ _ _ => mo_no)
  | succ n ih =>
    have ml1 := ih
    exact (fun h b0 b1 x2 b3 x4 => show Mo h (GX6_statement_1 kz (GX6_statement_r kz n) n h b0 b1 x2 b3 x4) from by unfold GX6_statement_1; exact mo_ite (mo_gC (mo_bnx (moX6_cell kz n h b0) hle_rf (fun r23 u23 m23 => mo_gC (mo_bnx (moX6_semicolon kz n u23 b0) m23 (fun r24 u24 m24 => mo_ret m24))))) (mo_ite (mo_gC (mo_bnx (moX6_start kz n h b0) hle_rf (fun r26 u26 m26 => mo_gC (mo_bnx (moX6_semicolon kz n u26 b0) m26 (fun r27 u27 m27 => mo_ret m27))))) (mo_ite (mo_gQ (fun x29_ => mo_gC (mo_bnx (moX6_number kz n h b0 (1 : Int32) (8 : Int32)) hle_rf (fun r30 u30 m30 => mo_pV m30 (fun h31 m31 => mo_gC (mo_bnx (moX6_semicolon kz n h31 b0) m31 (fun r32 u32 m32 => mo_ret m32))))))) (mo_ite (mo_gQ (fun x34_ => mo_gC (mo_bnx (moX6_number kz n h b0 (0 : Int32) (8 : Int32)) hle_rf (fun r35 u35 m35 => mo_pV m35 (fun h36 m36 => mo_gC (mo_bnx (moX6_semicolon kz n h36 b0) m36 (fun r37 u37 m37 => mo_ret m37))))))) (mo_ite (mo_gQ (fun x39_ => mo_pV hle_rf (fun h40 m40 => mo_gC (mo_bnx (moX6_semicolon kz n h40 b0) m40 (fun r41 u41 m41 => mo_ret m41))))) (mo_nW hle_rf (fun a42_ h42 m42 => mo_bnd (moX7_init kz h42 a42_ ((-2) : Int32) x2) m42 (fun r43 u43 m43 => mo_gC (mo_ret m43)))))))))
theorem moX6_statement (kz : Nat → Nat) (n : Nat) (h : Hp) (a0 : Nat) : Mo h (GX6_statement kz n h a0) := by
  have ml1 := moX6_statement_r kz n
  unfold GX6_statement GX6_statement_0
  exact mo_gC (mo_bnd (moX6_word n h a0) hle_rf (fun r1 u1 m1 => mo_gI (fun x2_ => mo_gI (fun x3_ => mo_gC (mo_bnd (moJ9_length u1 r1) m1 (fun r4 u4 m4 => mo_pV m4 (fun h5 m5 => mo_gC (mo_bnd (moJ9_hashCode n h5 r1) m5 (fun r6 u6 m6 => mo_ite (mo_gC (mo_bnd (moJ9_equals n u6 r1 (kz 316)) m6 (fun r8 u8 m8 => mo_ite (mo_tr m8 (ml1 u8 a0 r1 x2_ r1 ((-1) : Int32))) (mo_tr m8 (ml1 u8 a0 r1 x2_ r1 (3 : Int32)))))) (mo_ite (mo_gC (mo_bnd (moJ9_equals n u6 r1 (kz 313)) m6 (fun r11 u11 m11 => mo_ite (mo_tr m11 (ml1 u11 a0 r1 x2_ r1 ((-1) : Int32))) (mo_tr m11 (ml1 u11 a0 r1 x2_ r1 (0 : Int32)))))) (mo_ite (mo_gC (mo_bnd (moJ9_equals n u6 r1 (kz 317)) m6 (fun r14 u14 m14 => mo_ite (mo_tr m14 (ml1 u14 a0 r1 x2_ r1 ((-1) : Int32))) (mo_tr m14 (ml1 u14 a0 r1 x2_ r1 (4 : Int32)))))) (mo_ite (mo_gC (mo_bnd (moJ9_equals n u6 r1 (kz 315)) m6 (fun r17 u17 m17 => mo_ite (mo_tr m17 (ml1 u17 a0 r1 x2_ r1 ((-1) : Int32))) (mo_tr m17 (ml1 u17 a0 r1 x2_ r1 (2 : Int32)))))) (mo_ite (mo_gC (mo_bnd (moJ9_equals n u6 r1 (kz 314)) m6 (fun r20 u20 m20 => mo_ite (mo_tr m20 (ml1 u20 a0 r1 x2_ r1 ((-1) : Int32))) (mo_tr m20 (ml1 u20 a0 r1 x2_ r1 (1 : Int32)))))) (mo_tr m6 (ml1 u6 a0 r1 x2_ r1 ((-1) : Int32))))))))))))))))
set_option maxHeartbeats 4000000 in
set_option maxRecDepth 100000 in
theorem mgX6_statement (l : Launch) (hl0 : l.stackTraces = false) (D : HD) (A : Nat → Prop) (h : Hp) (n : Nat) (a0 : Nat) (out : (Int32 ⊕ Xq) × Hp) (hF : GX6_statement D.2 n h a0 = some out) (mc ms : Nat) (hmc : hCc out.2 = hCc h + mc) (hms : hSl out.2 = hSl h + ms) : vx_Met l yX6_statement (ws_ yX6_statement cX6_statement 5 none) ({ frames := 10, cells := mc, slots := ms, locals := 3145 }) (va_Pc [.ref a0] (hW D A h)) (va_Qv (fun u => ((.inl 0 : Int32 ⊕ Xq), u) = out) (hW D A) A) (xC D A out) mc ms A := by
  refine vx_ofW (cc := cX6_statement) (maxL := 5) (ret := none) (by decide +kernel) rfl ?_
  intro p e s m args below meth c s₁ B hml htb hv
  obtain ⟨rfl, hr, hGr⟩ := hv
  have hx := B.exec
  have hb := B.bytes
  have hret := B.returns
  have hts := atoms_spec (ws := (ws_ yX6_statement cX6_statement 5 none)) B.pre
  have hts : ∀ w ∈ lw_all, w.before _ s = true := fun w h => hts w (List.mem_cons_of_mem _ h)
  have hown : s.vm.findClass RX6 = some m.cls := findClass_of_methodNamed B.named
  have hlocks := B.notSynchronized
  have hS : va_S A s.heap s.heap [] := va_S.rf
  have hc : cst h 0 0 h := cst_0
  have hl := lv_entry ([.ref a0]) (n := 5) (Nat.le_of_ble_eq_true rfl)
  rw [lg_entry_eq]
  generalize (lg_sl ([.ref a0]) ++ List.replicate (5 - (lg_sl ([.ref a0])).length) Slot.unset).toArray = ls at hl ⊢
  have hl : lv_has ls 5 [(0, .ref a0)] := hl
  obtain ⟨h0, eh0⟩ : ∃ z, z = h := ⟨_, rfl⟩
  rw [← eh0] at hmc hms
  have loop : ∀ n : Nat, (∀ (h : Hp) (b0 : Nat) (b1 : Nat) (x2 : Int32) (b3 : Nat) (x4 : Int32), GX6_statement_r D.2 n 1 h b0 b1 x2 b3 x4 = some out → ∀ (H : Heap) (locs : List Loc) (cells slots : Nat), cst h0 cells slots h → hR D A h H → va_S A s.heap H locs → ∀ ls : Array Slot, lv_has ls 5 [(0, .ref b0), (1, .ref b1), (2, .int x2), (3, .ref b3), (4, .int x4)] → W p l e (headSpec (ws_ yX6_statement cX6_statement 5 none) ({ frames := 10, cells := mc, slots := ms, locals := 3145 })).room s m ([.ref a0] : List Value).toArray below meth c H locs cells slots (vx_MQ below (va_Qv (fun u => ((.inl 0 : Int32 ⊕ Xq), u) = out) (hW D A) A) (xC D A out) ([.ref a0] : List Value).toArray s mc ms A) (F0 m 156 ls [])) := by
    intro n
    induction n with
    | zero => exact (fun _ _ _ _ _ _ h => nomatch h)
    | succ n ih =>
      have lp1 := ih
      have ml1 := moX6_statement_r D.2 n
      intro h b0 b1 x2 b3 x4 hF H locs cells slots hc hr hS ls hl
      replace hF : GX6_statement_1 D.2 (GX6_statement_r D.2 n) n h b0 b1 x2 b3 x4 = some out := hF
      unfold GX6_statement_1 at hF
      refine lv_iload hx hb dX6_statement_156 (lv_at hl 4 rfl) ?_
      rcases Decidable.em (x4 = 0) with c22 | c22
      · replace hF := it_t c22 hF
        refine lv_tableIn (off := 34) (tgt := 192) hx hb dX6_statement_158 (by rw [c22]; decide) (by rw [c22]; decide) (by rw [c22]; rfl) (by decide) ?_
        refine lv_aload_n hx hb dX6_statement_192 rfl (lv_at hl 0 rfl) ?_
        obtain ⟨fc23, ec23, hF⟩ := gC_s hF
        rcases bnx_s hF with ⟨r23, u23, e23, hF⟩ | ⟨q23, u23, e23, hF⟩
        rotate_left
        · obtain ⟨mc23, ms23, hmc23, hms23⟩ := up_of (moX6_cell D.2 n h b0 _ e23)
          have hcx := cst_call hc hmc23 hms23
          have bx23 := bud_r hcx hF hmc hms
          refine h_xthrv rfl (vx_runV (As := []) (rest := []) ⟨hx, hb, hml, hown, hts⟩ (mgX6_cell l hl0 D A h n b0 _ e23 mc23 ms23 hmc23 hms23) (cwV 0 hts (lw_V q1606 q1608 qs35 q134 q1609) rfl rfl rfl (by decide +kernel) ⟨Nat.le_of_ble_eq_true rfl, Nat.le_of_ble_eq_true rfl⟩) (h_preV hGr hr hS ec23 (by decide) (q := (RX6, TX6, 5)) rfl _) rfl rfl hl.1 rfl (lv_room (Nat.le_of_ble_eq_true rfl)) dX6_statement_193 ⟨bx23.1, bx23.2⟩) hS (fun E9 q9 u9 H locs ce9 e1 e2 e3 hr hS h1 h2 h3 => ?_)
          exact h_xpass hGr htb hlocks hF bx23 e1 e2 e3 hr hS h1 h2 h3
        have mm23 : hle u23 out.2 := (show Mo u23 _ from mo_gC (mo_bnx (moX6_semicolon D.2 n u23 b0) hle_rf (fun r24 u24 m24 => mo_ret m24))) _ hF
        obtain ⟨mc23, ms23, hmc23, hms23⟩ := up_of (moX6_cell D.2 n h b0 _ e23)
        replace hc := cst_call hc hmc23 hms23
        refine h_xretv rfl (vx_runV (As := []) (rest := []) ⟨hx, hb, hml, hown, hts⟩ (mgX6_cell l hl0 D A h n b0 _ e23 mc23 ms23 hmc23 hms23) (cwV 0 hts (lw_V q1606 q1608 qs35 q134 q1609) rfl rfl rfl (by decide +kernel) ⟨Nat.le_of_ble_eq_true rfl, Nat.le_of_ble_eq_true rfl⟩) (h_preV hGr hr hS ec23 (by decide) (q := (RX6, TX6, 5)) rfl _) rfl rfl hl.1 rfl (lv_room (Nat.le_of_ble_eq_true rfl)) dX6_statement_193 ⟨(bud hc mm23 hmc hms).1, (bud hc mm23 hmc hms).2⟩) hS (fun H locs hr hS => ?_)
        refine lv_goto (tgt := 262) hx hb dX6_statement_196 (by decide) ?_
        refine lv_aload_n hx hb dX6_statement_262 rfl (lv_at hl 0 rfl) ?_
        obtain ⟨fc24, ec24, hF⟩ := gC_s hF
        rcases bnx_s hF with ⟨r24, u24, e24, hF⟩ | ⟨q24, u24, e24, hF⟩
        rotate_left
        · obtain ⟨mc24, ms24, hmc24, hms24⟩ := up_of (moX6_semicolon D.2 n u23 b0 _ e24)
          have hcx := cst_call hc hmc24 hms24
          have bx24 := bud_r hcx hF hmc hms
          refine h_xthrv rfl (vx_runV (As := []) (rest := []) ⟨hx, hb, hml, hown, hts⟩ (mgX6_semicolon l hl0 D A u23 n b0 _ e24 mc24 ms24 hmc24 hms24) (cwV 0 hts (lw_V q1536 q1538 qs33 q134 q1539) rfl rfl rfl (by decide +kernel) ⟨Nat.le_of_ble_eq_true rfl, Nat.le_of_ble_eq_true rfl⟩) (h_preV hGr hr hS ec24 (by decide) (q := (RX6, TX6, 5)) rfl _) rfl rfl hl.1 rfl (lv_room (Nat.le_of_ble_eq_true rfl)) dX6_statement_263 ⟨bx24.1, bx24.2⟩) hS (fun E9 q9 u9 H locs ce9 e1 e2 e3 hr hS h1 h2 h3 => ?_)
          exact h_xpass hGr htb hlocks hF bx24 e1 e2 e3 hr hS h1 h2 h3
        have mm24 : hle u24 out.2 := (show Mo u24 _ from mo_ret hle_rf) _ hF
        obtain ⟨mc24, ms24, hmc24, hms24⟩ := up_of (moX6_semicolon D.2 n u23 b0 _ e24)
        replace hc := cst_call hc hmc24 hms24
        refine h_xretv rfl (vx_runV (As := []) (rest := []) ⟨hx, hb, hml, hown, hts⟩ (mgX6_semicolon l hl0 D A u23 n b0 _ e24 mc24 ms24 hmc24 hms24) (cwV 0 hts (lw_V q1536 q1538 qs33 q134 q1539) rfl rfl rfl (by decide +kernel) ⟨Nat.le_of_ble_eq_true rfl, Nat.le_of_ble_eq_true rfl⟩) (h_preV hGr hr hS ec24 (by decide) (q := (RX6, TX6, 5)) rfl _) rfl rfl hl.1 rfl (lv_room (Nat.le_of_ble_eq_true rfl)) dX6_statement_263 ⟨(bud hc mm24 hmc hms).1, (bud hc mm24 hmc hms).2⟩) hS (fun H locs hr hS => ?_)
        have bz := bud_r hc hF hmc hms
        refine vx_ret ?_
        refine W.widen (k := mc) (n := ms) bz.1 bz.2 ?_
        exact W.vret hx hb hret (fun t ht hWm => ⟨⟨u24, rfl, Option.some.inj hF, h_end hGr hr hS ht hWm⟩, hS.F ht⟩) hS.2.2 dX6_statement_266
      · replace hF := it_f c22 hF
        rcases Decidable.em (x4 = 1) with c25 | c25
        · replace hF := it_t c25 hF
          refine lv_tableIn (off := 41) (tgt := 199) hx hb dX6_statement_158 (by rw [c25]; decide) (by rw [c25]; decide) (by rw [c25]; rfl) (by decide) ?_
          refine lv_aload_n hx hb dX6_statement_199 rfl (lv_at hl 0 rfl) ?_
          obtain ⟨fc26, ec26, hF⟩ := gC_s hF
          rcases bnx_s hF with ⟨r26, u26, e26, hF⟩ | ⟨q26, u26, e26, hF⟩
          rotate_left
          · obtain ⟨mc26, ms26, hmc26, hms26⟩ := up_of (moX6_start D.2 n h b0 _ e26)
            have hcx := cst_call hc hmc26 hms26
            have bx26 := bud_r hcx hF hmc hms
            refine h_xthrv rfl (vx_runV (As := []) (rest := []) ⟨hx, hb, hml, hown, hts⟩ (mgX6_start l hl0 D A h n b0 _ e26 mc26 ms26 hmc26 hms26) (cwV 0 hts (lw_V q1617 q1619 qs37 q134 q1620) rfl rfl rfl (by decide +kernel) ⟨Nat.le_of_ble_eq_true rfl, Nat.le_of_ble_eq_true rfl⟩) (h_preV hGr hr hS ec26 (by decide) (q := (RX6, TX6, 5)) rfl _) rfl rfl hl.1 rfl (lv_room (Nat.le_of_ble_eq_true rfl)) dX6_statement_200 ⟨bx26.1, bx26.2⟩) hS (fun E9 q9 u9 H locs ce9 e1 e2 e3 hr hS h1 h2 h3 => ?_)
            exact h_xpass hGr htb hlocks hF bx26 e1 e2 e3 hr hS h1 h2 h3
          have mm26 : hle u26 out.2 := (show Mo u26 _ from mo_gC (mo_bnx (moX6_semicolon D.2 n u26 b0) hle_rf (fun r27 u27 m27 => mo_ret m27))) _ hF
          obtain ⟨mc26, ms26, hmc26, hms26⟩ := up_of (moX6_start D.2 n h b0 _ e26)
          replace hc := cst_call hc hmc26 hms26
          refine h_xretv rfl (vx_runV (As := []) (rest := []) ⟨hx, hb, hml, hown, hts⟩ (mgX6_start l hl0 D A h n b0 _ e26 mc26 ms26 hmc26 hms26) (cwV 0 hts (lw_V q1617 q1619 qs37 q134 q1620) rfl rfl rfl (by decide +kernel) ⟨Nat.le_of_ble_eq_true rfl, Nat.le_of_ble_eq_true rfl⟩) (h_preV hGr hr hS ec26 (by decide) (q := (RX6, TX6, 5)) rfl _) rfl rfl hl.1 rfl (lv_room (Nat.le_of_ble_eq_true rfl)) dX6_statement_200 ⟨(bud hc mm26 hmc hms).1, (bud hc mm26 hmc hms).2⟩) hS (fun H locs hr hS => ?_)
          refine lv_goto (tgt := 262) hx hb dX6_statement_203 (by decide) ?_
          refine lv_aload_n hx hb dX6_statement_262 rfl (lv_at hl 0 rfl) ?_
          obtain ⟨fc27, ec27, hF⟩ := gC_s hF
          rcases bnx_s hF with ⟨r27, u27, e27, hF⟩ | ⟨q27, u27, e27, hF⟩
          rotate_left
          · obtain ⟨mc27, ms27, hmc27, hms27⟩ := up_of (moX6_semicolon D.2 n u26 b0 _ e27)
            have hcx := cst_call hc hmc27 hms27
            have bx27 := bud_r hcx hF hmc hms
            refine h_xthrv rfl (vx_runV (As := []) (rest := []) ⟨hx, hb, hml, hown, hts⟩ (mgX6_semicolon l hl0 D A u26 n b0 _ e27 mc27 ms27 hmc27 hms27) (cwV 0 hts (lw_V q1536 q1538 qs33 q134 q1539) rfl rfl rfl (by decide +kernel) ⟨Nat.le_of_ble_eq_true rfl, Nat.le_of_ble_eq_true rfl⟩) (h_preV hGr hr hS ec27 (by decide) (q := (RX6, TX6, 5)) rfl _) rfl rfl hl.1 rfl (lv_room (Nat.le_of_ble_eq_true rfl)) dX6_statement_263 ⟨bx27.1, bx27.2⟩) hS (fun E9 q9 u9 H locs ce9 e1 e2 e3 hr hS h1 h2 h3 => ?_)
            exact h_xpass hGr htb hlocks hF bx27 e1 e2 e3 hr hS h1 h2 h3
          have mm27 : hle u27 out.2 := (show Mo u27 _ from mo_ret hle_rf) _ hF
          obtain ⟨mc27, ms27, hmc27, hms27⟩ := up_of (moX6_semicolon D.2 n u26 b0 _ e27)
          replace hc := cst_call hc hmc27 hms27
          refine h_xretv rfl (vx_runV (As := []) (rest := []) ⟨hx, hb, hml, hown, hts⟩ (mgX6_semicolon l hl0 D A u26 n b0 _ e27 mc27 ms27 hmc27 hms27) (cwV 0 hts (lw_V q1536 q1538 qs33 q134 q1539) rfl rfl rfl (by decide +kernel) ⟨Nat.le_of_ble_eq_true rfl, Nat.le_of_ble_eq_true rfl⟩) (h_preV hGr hr hS ec27 (by decide) (q := (RX6, TX6, 5)) rfl _) rfl rfl hl.1 rfl (lv_room (Nat.le_of_ble_eq_true rfl)) dX6_statement_263 ⟨(bud hc mm27 hmc hms).1, (bud hc mm27 hmc hms).2⟩) hS (fun H locs hr hS => ?_)
          have bz := bud_r hc hF hmc hms
          refine vx_ret ?_
          refine W.widen (k := mc) (n := ms) bz.1 bz.2 ?_
          exact W.vret hx hb hret (fun t ht hWm => ⟨⟨u27, rfl, Option.some.inj hF, h_end hGr hr hS ht hWm⟩, hS.F ht⟩) hS.2.2 dX6_statement_266
        · replace hF := it_f c25 hF
          rcases Decidable.em (x4 = 2) with c28 | c28
          · replace hF := it_t c28 hF
            refine lv_tableIn (off := 48) (tgt := 206) hx hb dX6_statement_158 (by rw [c28]; decide) (by rw [c28]; decide) (by rw [c28]; rfl) (by decide) ?_
            refine lv_aload_n hx hb dX6_statement_206 rfl (lv_at hl 0 rfl) ?_
            obtain ⟨fs29, x29_, e29, f29, hF⟩ := gQ_s hF
            refine h_get (C := RX6) (T := TX6) (N := 5) hx hb hts in_X6 hown hGr hr e29 (by decide) rfl 1 (by decide) (hts _ q1438) (fun _ h9 => h9) f29 dX6_statement_207 ?_
            refine lv_aload_n hx hb dX6_statement_210 rfl (lv_at hl 0 rfl) ?_
            refine lv_iconst (v := 1) hx hb dX6_statement_211 (by decide) ?_
            refine lv_bipush (v := 8) hx hb dX6_statement_212 (by decide) ?_
            obtain ⟨fc30, ec30, hF⟩ := gC_s hF
            rcases bnx_s hF with ⟨r30, u30, e30, hF⟩ | ⟨q30, u30, e30, hF⟩
            rotate_left
            · obtain ⟨mc30, ms30, hmc30, hms30⟩ := up_of (moX6_number D.2 n h b0 (1 : Int32) (8 : Int32) _ e30)
              have hcx := cst_call hc hmc30 hms30
              have bx30 := bud_r hcx hF hmc hms
              refine h_xthri rfl (vx_runV (As := [.int 1, .int 8]) (rest := [.ref x29_]) ⟨hx, hb, hml, hown, hts⟩ (mgX6_number l hl0 D A h n b0 (1 : Int32) (8 : Int32) _ e30 mc30 ms30 hmc30 hms30) (cwV 2 hts (lw_V q1518 q1520 qs31 q134 q1521) rfl rfl rfl (by decide +kernel) ⟨Nat.le_of_ble_eq_true rfl, Nat.le_of_ble_eq_true rfl⟩) (h_preV hGr hr hS ec30 (by decide) (q := (RX6, TX6, 5)) rfl _) rfl rfl hl.1 rfl (lv_room (Nat.le_of_ble_eq_true rfl)) dX6_statement_214 ⟨bx30.1, bx30.2⟩) hS (fun E9 q9 u9 H locs ce9 e1 e2 e3 hr hS h1 h2 h3 => ?_)
              exact h_xpass hGr htb hlocks hF bx30 e1 e2 e3 hr hS h1 h2 h3
            have mm30 : hle u30 out.2 := (show Mo u30 _ from mo_pV hle_rf (fun h31 m31 => mo_gC (mo_bnx (moX6_semicolon D.2 n h31 b0) m31 (fun r32 u32 m32 => mo_ret m32)))) _ hF
            obtain ⟨mc30, ms30, hmc30, hms30⟩ := up_of (moX6_number D.2 n h b0 (1 : Int32) (8 : Int32) _ e30)
            replace hc := cst_call hc hmc30 hms30
            refine h_xreti rfl (vx_runV (As := [.int 1, .int 8]) (rest := [.ref x29_]) ⟨hx, hb, hml, hown, hts⟩ (mgX6_number l hl0 D A h n b0 (1 : Int32) (8 : Int32) _ e30 mc30 ms30 hmc30 hms30) (cwV 2 hts (lw_V q1518 q1520 qs31 q134 q1521) rfl rfl rfl (by decide +kernel) ⟨Nat.le_of_ble_eq_true rfl, Nat.le_of_ble_eq_true rfl⟩) (h_preV hGr hr hS ec30 (by decide) (q := (RX6, TX6, 5)) rfl _) rfl rfl hl.1 rfl (lv_room (Nat.le_of_ble_eq_true rfl)) dX6_statement_214 ⟨(bud hc mm30 hmc hms).1, (bud hc mm30 hmc hms).2⟩) hS (fun H locs hr hS => ?_)
            obtain ⟨fs31, e31, k31, lo31, hF⟩ := pV_s hF
            obtain ⟨h31, eh31⟩ : ∃ z, z = hPut u30 x29_ (.inr (2, fs31.set 4 (.int r30))) := ⟨_, rfl⟩
            rw [← eh31] at hF
            refine h_putN (C := RX2) (T := TX2) (N := 11) hx hb hts in_X2 tyX2 tyX2_ok nmX2 hown hGr hr hS e31 (by decide) rfl 4 (by decide) (va_Nw.use rfl (hGr.nw q574 rfl)) (fun _ h9 => h9) rfl (tyX2_ok 4 (by decide)) rfl rfl k31 lo31 dX6_statement_217 (fun H locs hr hS => ?_)
            rw [← eh31] at hr
            replace hc := cst_put hc eh31
            refine lv_goto (tgt := 262) hx hb dX6_statement_220 (by decide) ?_
            refine lv_aload_n hx hb dX6_statement_262 rfl (lv_at hl 0 rfl) ?_
            obtain ⟨fc32, ec32, hF⟩ := gC_s hF
            rcases bnx_s hF with ⟨r32, u32, e32, hF⟩ | ⟨q32, u32, e32, hF⟩
            rotate_left
            · obtain ⟨mc32, ms32, hmc32, hms32⟩ := up_of (moX6_semicolon D.2 n h31 b0 _ e32)
              have hcx := cst_call hc hmc32 hms32
              have bx32 := bud_r hcx hF hmc hms
              refine h_xthrv rfl (vx_runV (As := []) (rest := []) ⟨hx, hb, hml, hown, hts⟩ (mgX6_semicolon l hl0 D A h31 n b0 _ e32 mc32 ms32 hmc32 hms32) (cwV 0 hts (lw_V q1536 q1538 qs33 q134 q1539) rfl rfl rfl (by decide +kernel) ⟨Nat.le_of_ble_eq_true rfl, Nat.le_of_ble_eq_true rfl⟩) (h_preV hGr hr hS ec32 (by decide) (q := (RX6, TX6, 5)) rfl _) rfl rfl hl.1 rfl (lv_room (Nat.le_of_ble_eq_true rfl)) dX6_statement_263 ⟨bx32.1, bx32.2⟩) hS (fun E9 q9 u9 H locs ce9 e1 e2 e3 hr hS h1 h2 h3 => ?_)
              exact h_xpass hGr htb hlocks hF bx32 e1 e2 e3 hr hS h1 h2 h3
            have mm32 : hle u32 out.2 := (show Mo u32 _ from mo_ret hle_rf) _ hF
            obtain ⟨mc32, ms32, hmc32, hms32⟩ := up_of (moX6_semicolon D.2 n h31 b0 _ e32)
            replace hc := cst_call hc hmc32 hms32
            refine h_xretv rfl (vx_runV (As := []) (rest := []) ⟨hx, hb, hml, hown, hts⟩ (mgX6_semicolon l hl0 D A h31 n b0 _ e32 mc32 ms32 hmc32 hms32) (cwV 0 hts (lw_V q1536 q1538 qs33 q134 q1539) rfl rfl rfl (by decide +kernel) ⟨Nat.le_of_ble_eq_true rfl, Nat.le_of_ble_eq_true rfl⟩) (h_preV hGr hr hS ec32 (by decide) (q := (RX6, TX6, 5)) rfl _) rfl rfl hl.1 rfl (lv_room (Nat.le_of_ble_eq_true rfl)) dX6_statement_263 ⟨(bud hc mm32 hmc hms).1, (bud hc mm32 hmc hms).2⟩) hS (fun H locs hr hS => ?_)
            have bz := bud_r hc hF hmc hms
            refine vx_ret ?_
            refine W.widen (k := mc) (n := ms) bz.1 bz.2 ?_
            exact W.vret hx hb hret (fun t ht hWm => ⟨⟨u32, rfl, Option.some.inj hF, h_end hGr hr hS ht hWm⟩, hS.F ht⟩) hS.2.2 dX6_statement_266
          · replace hF := it_f c28 hF
            rcases Decidable.em (x4 = 3) with c33 | c33
            · replace hF := it_t c33 hF
              refine lv_tableIn (off := 65) (tgt := 223) hx hb dX6_statement_158 (by rw [c33]; decide) (by rw [c33]; decide) (by rw [c33]; rfl) (by decide) ?_
              refine lv_aload_n hx hb dX6_statement_223 rfl (lv_at hl 0 rfl) ?_
              obtain ⟨fs34, x34_, e34, f34, hF⟩ := gQ_s hF
              refine h_get (C := RX6) (T := TX6) (N := 5) hx hb hts in_X6 hown hGr hr e34 (by decide) rfl 1 (by decide) (hts _ q1438) (fun _ h9 => h9) f34 dX6_statement_224 ?_
              refine lv_aload_n hx hb dX6_statement_227 rfl (lv_at hl 0 rfl) ?_
              refine lv_iconst (v := 0) hx hb dX6_statement_228 (by decide) ?_
              refine lv_bipush (v := 8) hx hb dX6_statement_229 (by decide) ?_
              obtain ⟨fc35, ec35, hF⟩ := gC_s hF
              rcases bnx_s hF with ⟨r35, u35, e35, hF⟩ | ⟨q35, u35, e35, hF⟩
              rotate_left
              · obtain ⟨mc35, ms35, hmc35, hms35⟩ := up_of (moX6_number D.2 n h b0 (0 : Int32) (8 : Int32) _ e35)
                have hcx := cst_call hc hmc35 hms35
                have bx35 := bud_r hcx hF hmc hms
                refine h_xthri rfl (vx_runV (As := [.int 0, .int 8]) (rest := [.ref x34_]) ⟨hx, hb, hml, hown, hts⟩ (mgX6_number l hl0 D A h n b0 (0 : Int32) (8 : Int32) _ e35 mc35 ms35 hmc35 hms35) (cwV 2 hts (lw_V q1518 q1520 qs31 q134 q1521) rfl rfl rfl (by decide +kernel) ⟨Nat.le_of_ble_eq_true rfl, Nat.le_of_ble_eq_true rfl⟩) (h_preV hGr hr hS ec35 (by decide) (q := (RX6, TX6, 5)) rfl _) rfl rfl hl.1 rfl (lv_room (Nat.le_of_ble_eq_true rfl)) dX6_statement_231 ⟨bx35.1, bx35.2⟩) hS (fun E9 q9 u9 H locs ce9 e1 e2 e3 hr hS h1 h2 h3 => ?_)
                exact h_xpass hGr htb hlocks hF bx35 e1 e2 e3 hr hS h1 h2 h3
              have mm35 : hle u35 out.2 := (show Mo u35 _ from mo_pV hle_rf (fun h36 m36 => mo_gC (mo_bnx (moX6_semicolon D.2 n h36 b0) m36 (fun r37 u37 m37 => mo_ret m37)))) _ hF
              obtain ⟨mc35, ms35, hmc35, hms35⟩ := up_of (moX6_number D.2 n h b0 (0 : Int32) (8 : Int32) _ e35)
              replace hc := cst_call hc hmc35 hms35
              refine h_xreti rfl (vx_runV (As := [.int 0, .int 8]) (rest := [.ref x34_]) ⟨hx, hb, hml, hown, hts⟩ (mgX6_number l hl0 D A h n b0 (0 : Int32) (8 : Int32) _ e35 mc35 ms35 hmc35 hms35) (cwV 2 hts (lw_V q1518 q1520 qs31 q134 q1521) rfl rfl rfl (by decide +kernel) ⟨Nat.le_of_ble_eq_true rfl, Nat.le_of_ble_eq_true rfl⟩) (h_preV hGr hr hS ec35 (by decide) (q := (RX6, TX6, 5)) rfl _) rfl rfl hl.1 rfl (lv_room (Nat.le_of_ble_eq_true rfl)) dX6_statement_231 ⟨(bud hc mm35 hmc hms).1, (bud hc mm35 hmc hms).2⟩) hS (fun H locs hr hS => ?_)
              obtain ⟨fs36, e36, k36, lo36, hF⟩ := pV_s hF
              obtain ⟨h36, eh36⟩ : ∃ z, z = hPut u35 x34_ (.inr (2, fs36.set 5 (.int r35))) := ⟨_, rfl⟩
              rw [← eh36] at hF
              refine h_putN (C := RX2) (T := TX2) (N := 11) hx hb hts in_X2 tyX2 tyX2_ok nmX2 hown hGr hr hS e36 (by decide) rfl 5 (by decide) (va_Nw.use rfl (hGr.nw q577 rfl)) (fun _ h9 => h9) rfl (tyX2_ok 5 (by decide)) rfl rfl k36 lo36 dX6_statement_234 (fun H locs hr hS => ?_)
              rw [← eh36] at hr
              replace hc := cst_put hc eh36
              refine lv_goto (tgt := 262) hx hb dX6_statement_237 (by decide) ?_
              refine lv_aload_n hx hb dX6_statement_262 rfl (lv_at hl 0 rfl) ?_
              obtain ⟨fc37, ec37, hF⟩ := gC_s hF
              rcases bnx_s hF with ⟨r37, u37, e37, hF⟩ | ⟨q37, u37, e37, hF⟩
              rotate_left
              · obtain ⟨mc37, ms37, hmc37, hms37⟩ := up_of (moX6_semicolon D.2 n h36 b0 _ e37)
                have hcx := cst_call hc hmc37 hms37
                have bx37 := bud_r hcx hF hmc hms
                refine h_xthrv rfl (vx_runV (As := []) (rest := []) ⟨hx, hb, hml, hown, hts⟩ (mgX6_semicolon l hl0 D A h36 n b0 _ e37 mc37 ms37 hmc37 hms37) (cwV 0 hts (lw_V q1536 q1538 qs33 q134 q1539) rfl rfl rfl (by decide +kernel) ⟨Nat.le_of_ble_eq_true rfl, Nat.le_of_ble_eq_true rfl⟩) (h_preV hGr hr hS ec37 (by decide) (q := (RX6, TX6, 5)) rfl _) rfl rfl hl.1 rfl (lv_room (Nat.le_of_ble_eq_true rfl)) dX6_statement_263 ⟨bx37.1, bx37.2⟩) hS (fun E9 q9 u9 H locs ce9 e1 e2 e3 hr hS h1 h2 h3 => ?_)
                exact h_xpass hGr htb hlocks hF bx37 e1 e2 e3 hr hS h1 h2 h3
              have mm37 : hle u37 out.2 := (show Mo u37 _ from mo_ret hle_rf) _ hF
              obtain ⟨mc37, ms37, hmc37, hms37⟩ := up_of (moX6_semicolon D.2 n h36 b0 _ e37)
              replace hc := cst_call hc hmc37 hms37
              refine h_xretv rfl (vx_runV (As := []) (rest := []) ⟨hx, hb, hml, hown, hts⟩ (mgX6_semicolon l hl0 D A h36 n b0 _ e37 mc37 ms37 hmc37 hms37) (cwV 0 hts (lw_V q1536 q1538 qs33 q134 q1539) rfl rfl rfl (by decide +kernel) ⟨Nat.le_of_ble_eq_true rfl, Nat.le_of_ble_eq_true rfl⟩) (h_preV hGr hr hS ec37 (by decide) (q := (RX6, TX6, 5)) rfl _) rfl rfl hl.1 rfl (lv_room (Nat.le_of_ble_eq_true rfl)) dX6_statement_263 ⟨(bud hc mm37 hmc hms).1, (bud hc mm37 hmc hms).2⟩) hS (fun H locs hr hS => ?_)
              have bz := bud_r hc hF hmc hms
              refine vx_ret ?_
              refine W.widen (k := mc) (n := ms) bz.1 bz.2 ?_
              exact W.vret hx hb hret (fun t ht hWm => ⟨⟨u37, rfl, Option.some.inj hF, h_end hGr hr hS ht hWm⟩, hS.F ht⟩) hS.2.2 dX6_statement_266
            · replace hF := it_f c33 hF
              rcases Decidable.em (x4 = 4) with c38 | c38
              · replace hF := it_t c38 hF
                refine lv_tableIn (off := 82) (tgt := 240) hx hb dX6_statement_158 (by rw [c38]; decide) (by rw [c38]; decide) (by rw [c38]; rfl) (by decide) ?_
                refine lv_aload_n hx hb dX6_statement_240 rfl (lv_at hl 0 rfl) ?_
                obtain ⟨fs39, x39_, e39, f39, hF⟩ := gQ_s hF
                refine h_get (C := RX6) (T := TX6) (N := 5) hx hb hts in_X6 hown hGr hr e39 (by decide) rfl 1 (by decide) (hts _ q1438) (fun _ h9 => h9) f39 dX6_statement_241 ?_
                refine lv_iconst (v := 1) hx hb dX6_statement_244 (by decide) ?_
                obtain ⟨fs40, e40, k40, lo40, hF⟩ := pV_s hF
                obtain ⟨h40, eh40⟩ : ∃ z, z = hPut h x39_ (.inr (2, fs40.set 6 (.int 1))) := ⟨_, rfl⟩
                rw [← eh40] at hF
                refine h_putN (C := RX2) (T := TX2) (N := 11) hx hb hts in_X2 tyX2 tyX2_ok nmX2 hown hGr hr hS e40 (by decide) rfl 6 (by decide) (va_Nw.use rfl (hGr.nw q580 rfl)) (fun _ h9 => h9) rfl (tyX2_ok 6 (by decide)) rfl rfl k40 lo40 dX6_statement_245 (fun H locs hr hS => ?_)
                rw [← eh40] at hr
                replace hc := cst_put hc eh40
                refine lv_goto (tgt := 262) hx hb dX6_statement_248 (by decide) ?_
                refine lv_aload_n hx hb dX6_statement_262 rfl (lv_at hl 0 rfl) ?_
                obtain ⟨fc41, ec41, hF⟩ := gC_s hF
                rcases bnx_s hF with ⟨r41, u41, e41, hF⟩ | ⟨q41, u41, e41, hF⟩
                rotate_left
                · obtain ⟨mc41, ms41, hmc41, hms41⟩ := up_of (moX6_semicolon D.2 n h40 b0 _ e41)
                  have hcx := cst_call hc hmc41 hms41
                  have bx41 := bud_r hcx hF hmc hms
                  refine h_xthrv rfl (vx_runV (As := []) (rest := []) ⟨hx, hb, hml, hown, hts⟩ (mgX6_semicolon l hl0 D A h40 n b0 _ e41 mc41 ms41 hmc41 hms41) (cwV 0 hts (lw_V q1536 q1538 qs33 q134 q1539) rfl rfl rfl (by decide +kernel) ⟨Nat.le_of_ble_eq_true rfl, Nat.le_of_ble_eq_true rfl⟩) (h_preV hGr hr hS ec41 (by decide) (q := (RX6, TX6, 5)) rfl _) rfl rfl hl.1 rfl (lv_room (Nat.le_of_ble_eq_true rfl)) dX6_statement_263 ⟨bx41.1, bx41.2⟩) hS (fun E9 q9 u9 H locs ce9 e1 e2 e3 hr hS h1 h2 h3 => ?_)
                  exact h_xpass hGr htb hlocks hF bx41 e1 e2 e3 hr hS h1 h2 h3
                have mm41 : hle u41 out.2 := (show Mo u41 _ from mo_ret hle_rf) _ hF
                obtain ⟨mc41, ms41, hmc41, hms41⟩ := up_of (moX6_semicolon D.2 n h40 b0 _ e41)
                replace hc := cst_call hc hmc41 hms41
                refine h_xretv rfl (vx_runV (As := []) (rest := []) ⟨hx, hb, hml, hown, hts⟩ (mgX6_semicolon l hl0 D A h40 n b0 _ e41 mc41 ms41 hmc41 hms41) (cwV 0 hts (lw_V q1536 q1538 qs33 q134 q1539) rfl rfl rfl (by decide +kernel) ⟨Nat.le_of_ble_eq_true rfl, Nat.le_of_ble_eq_true rfl⟩) (h_preV hGr hr hS ec41 (by decide) (q := (RX6, TX6, 5)) rfl _) rfl rfl hl.1 rfl (lv_room (Nat.le_of_ble_eq_true rfl)) dX6_statement_263 ⟨(bud hc mm41 hmc hms).1, (bud hc mm41 hmc hms).2⟩) hS (fun H locs hr hS => ?_)
                have bz := bud_r hc hF hmc hms
                refine vx_ret ?_
                refine W.widen (k := mc) (n := ms) bz.1 bz.2 ?_
                exact W.vret hx hb hret (fun t ht hWm => ⟨⟨u41, rfl, Option.some.inj hF, h_end hGr hr hS ht hWm⟩, hS.F ht⟩) hS.2.2 dX6_statement_266
              · replace hF := it_f c38 hF
                refine lv_tableOut (tgt := 251) hx hb dX6_statement_158 (tb_out5 c22 c25 c28 c33 c38) (by decide) ?_
                obtain ⟨a42_, h42, ea42, eh42, hF⟩ := nW_s hF
                have mm42 : hle h42 out.2 := (show Mo h42 _ from mo_bnd (moX7_init D.2 h42 a42_ ((-2) : Int32) x2) hle_rf (fun r43 u43 m43 => mo_gC (mo_ret m43))) _ hF
                replace hc := cst_new hc eh42
                refine h_new (C := RX7) (T := TX7) (N := 8) hx hb hts in_X7 tyX7 tyX7_ok hown (hts _ q1489) (hts _ q1490) (hts _ q135) hGr hr hS (ci := 6) (by decide) rfl (fs := [.null, .null, .null, .null, .null, .int 0, .int 0, .int 0]) (fun j hj => by match j, hj with | 0, _ => rfl | 1, _ => rfl | 2, _ => rfl | 3, _ => rfl | 4, _ => rfl | 5, _ => rfl | 6, _ => rfl | 7, _ => rfl | j + 8, hj => omega) (bud hc mm42 hmc hms).1 (bud hc mm42 hmc hms).2 dX6_statement_251 (fun H hr hS => ?_)
                rw [← eh42] at hr
                rw [← ea42]
                refine lv_dup hx hb dX6_statement_254 rfl ?_
                refine lv_bipush (v := (-2)) hx hb dX6_statement_255 (by decide) ?_
                refine lv_iload_n hx hb dX6_statement_257 rfl (lv_at hl 2 rfl) ?_
                obtain ⟨r43, u43, e43, hF⟩ := bnd_s hF
                have mm43 : hle u43 out.2 := (show Mo u43 _ from mo_gC (mo_ret hle_rf)) _ hF
                obtain ⟨mc43, ms43, hmc43, hms43⟩ := up_of (moX7_init D.2 h42 a42_ ((-2) : Int32) x2 _ e43)
                replace hc := cst_call hc hmc43 hms43
                refine h_callv (va_runI (As := [.int (-2), .int x2]) (rest := [.ref a42_]) ⟨hx, hb, hml, hown, hts⟩ (mgX7_init l D A h42 a42_ ((-2) : Int32) x2 _ e43 mc43 ms43 hmc43 hms43) (cwI 2 hts (lw_meth q1500) rfl rfl rfl (hts _ q135) (hts _ q1498) (hts _ q1499) rfl (by decide +kernel) ⟨Nat.le_of_ble_eq_true rfl, Nat.le_of_ble_eq_true rfl⟩) (h_preS hGr hr hS _) rfl rfl hl.1 rfl (lv_room (Nat.le_of_ble_eq_true rfl)) dX6_statement_258 ⟨(bud hc mm43 hmc hms).1, (bud hc mm43 hmc hms).2⟩) hS (fun uu H locs hw hr hS => ?_)
                obtain rfl : u43 = uu := (congrArg Prod.snd hw).symm
                obtain ⟨fs44, e44, hF⟩ := gC_s hF
                have bz := bud_r hc hF hmc hms
                exact h_athr hx hb hGr hr hS htb hlocks e44 hF bz dX6_statement_261
  have lp1 := loop n
  have ml1 := moX6_statement_r D.2 n
  have hc : cst h0 0 0 h := by rw [eh0]; exact cst_0
  unfold GX6_statement GX6_statement_0 at hF
  refine lv_aload_n hx hb dX6_statement_0 rfl (lv_at hl 0 rfl) ?_
  obtain ⟨fc1, ec1, hF⟩ := gC_s hF
  obtain ⟨r1, u1, e1, hF⟩ := bnd_s hF
  have mm1 : hle u1 out.2 := (show Mo u1 _ from mo_gI (fun x2_ => mo_gI (fun x3_ => mo_gC (mo_bnd (moJ9_length u1 r1) hle_rf (fun r4 u4 m4 => mo_pV m4 (fun h5 m5 => mo_gC (mo_bnd (moJ9_hashCode n h5 r1) m5 (fun r6 u6 m6 => mo_ite (mo_gC (mo_bnd (moJ9_equals n u6 r1 (D.2 316)) m6 (fun r8 u8 m8 => mo_ite (mo_tr m8 (ml1 u8 a0 r1 x2_ r1 ((-1) : Int32))) (mo_tr m8 (ml1 u8 a0 r1 x2_ r1 (3 : Int32)))))) (mo_ite (mo_gC (mo_bnd (moJ9_equals n u6 r1 (D.2 313)) m6 (fun r11 u11 m11 => mo_ite (mo_tr m11 (ml1 u11 a0 r1 x2_ r1 ((-1) : Int32))) (mo_tr m11 (ml1 u11 a0 r1 x2_ r1 (0 : Int32)))))) (mo_ite (mo_gC (mo_bnd (moJ9_equals n u6 r1 (D.2 317)) m6 (fun r14 u14 m14 => mo_ite (mo_tr m14 (ml1 u14 a0 r1 x2_ r1 ((-1) : Int32))) (mo_tr m14 (ml1 u14 a0 r1 x2_ r1 (4 : Int32)))))) (mo_ite (mo_gC (mo_bnd (moJ9_equals n u6 r1 (D.2 315)) m6 (fun r17 u17 m17 => mo_ite (mo_tr m17 (ml1 u17 a0 r1 x2_ r1 ((-1) : Int32))) (mo_tr m17 (ml1 u17 a0 r1 x2_ r1 (2 : Int32)))))) (mo_ite (mo_gC (mo_bnd (moJ9_equals n u6 r1 (D.2 314)) m6 (fun r20 u20 m20 => mo_ite (mo_tr m20 (ml1 u20 a0 r1 x2_ r1 ((-1) : Int32))) (mo_tr m20 (ml1 u20 a0 r1 x2_ r1 (1 : Int32)))))) (mo_tr m6 (ml1 u6 a0 r1 x2_ r1 ((-1) : Int32))))))))))))))) _ hF
  obtain ⟨mc1, ms1, hmc1, hms1⟩ := up_of (moX6_word n h a0 _ e1)
  replace hc := cst_call hc hmc1 hms1
  refine h_callr (va_runV (As := []) (rest := []) ⟨hx, hb, hml, hown, hts⟩ (mgX6_word l D A h n a0 _ e1 mc1 ms1 hmc1 hms1) (cwV 0 hts (lw_V q1462 q1464 qs28 q134 q1465) rfl rfl rfl (by decide +kernel) ⟨Nat.le_of_ble_eq_true rfl, Nat.le_of_ble_eq_true rfl⟩) (h_preV hGr hr hS ec1 (by decide) (q := (RX6, TX6, 5)) rfl _) rfl rfl hl.1 rfl (lv_room (Nat.le_of_ble_eq_true rfl)) dX6_statement_1 ⟨(bud hc mm1 hmc hms).1, (bud hc mm1 hmc hms).2⟩) hS (fun rr uu H locs hw hr hS => ?_)
  obtain rfl : u1 = uu := (congrArg Prod.snd hw).symm
  obtain rfl : r1 = rr := (congrArg Prod.fst hw).symm
  refine lv_astore_n (lv' := [(1, .ref r1), (0, .ref a0)]) hx hb dX6_statement_4 rfl hl (by decide) rfl (fun ls hl => ?_)
  refine lv_aload_n hx hb dX6_statement_5 rfl (lv_at hl 1 rfl) ?_
  obtain ⟨fs2, x2_, e2, f2, hF⟩ := gI_s hF
  refine h_get (C := RX6) (T := TX6) (N := 5) hx hb hts in_X6 hown hGr hr e2 (by decide) rfl 2 (by decide) (hts _ q1439) (fun _ h9 => h9) f2 dX6_statement_6 ?_
  refine lv_istore_n (lv' := [(2, .int x2_), (1, .ref r1), (0, .ref a0)]) hx hb dX6_statement_9 rfl hl (by decide) rfl (fun ls hl => ?_)
  refine lv_aload_n hx hb dX6_statement_10 rfl (lv_at hl 2 rfl) ?_
  refine lv_dup hx hb dX6_statement_11 rfl ?_
  obtain ⟨fs3, x3_, e3, f3, hF⟩ := gI_s hF
  refine h_get (C := RX6) (T := TX6) (N := 5) hx hb hts in_X6 hown hGr hr e3 (by decide) rfl 2 (by decide) (hts _ q1439) (fun _ h9 => h9) f3 dX6_statement_12 ?_
  refine lv_aload_n hx hb dX6_statement_15 rfl (lv_at hl 1 rfl) ?_
  obtain ⟨fc4, ec4, hF⟩ := gC_s hF
  obtain ⟨r4, u4, e4, hF⟩ := bnd_s hF
  have mm4 : hle u4 out.2 := (show Mo u4 _ from mo_pV hle_rf (fun h5 m5 => mo_gC (mo_bnd (moJ9_hashCode n h5 r1) m5 (fun r6 u6 m6 => mo_ite (mo_gC (mo_bnd (moJ9_equals n u6 r1 (D.2 316)) m6 (fun r8 u8 m8 => mo_ite (mo_tr m8 (ml1 u8 a0 r1 x2_ r1 ((-1) : Int32))) (mo_tr m8 (ml1 u8 a0 r1 x2_ r1 (3 : Int32)))))) (mo_ite (mo_gC (mo_bnd (moJ9_equals n u6 r1 (D.2 313)) m6 (fun r11 u11 m11 => mo_ite (mo_tr m11 (ml1 u11 a0 r1 x2_ r1 ((-1) : Int32))) (mo_tr m11 (ml1 u11 a0 r1 x2_ r1 (0 : Int32)))))) (mo_ite (mo_gC (mo_bnd (moJ9_equals n u6 r1 (D.2 317)) m6 (fun r14 u14 m14 => mo_ite (mo_tr m14 (ml1 u14 a0 r1 x2_ r1 ((-1) : Int32))) (mo_tr m14 (ml1 u14 a0 r1 x2_ r1 (4 : Int32)))))) (mo_ite (mo_gC (mo_bnd (moJ9_equals n u6 r1 (D.2 315)) m6 (fun r17 u17 m17 => mo_ite (mo_tr m17 (ml1 u17 a0 r1 x2_ r1 ((-1) : Int32))) (mo_tr m17 (ml1 u17 a0 r1 x2_ r1 (2 : Int32)))))) (mo_ite (mo_gC (mo_bnd (moJ9_equals n u6 r1 (D.2 314)) m6 (fun r20 u20 m20 => mo_ite (mo_tr m20 (ml1 u20 a0 r1 x2_ r1 ((-1) : Int32))) (mo_tr m20 (ml1 u20 a0 r1 x2_ r1 (1 : Int32)))))) (mo_tr m6 (ml1 u6 a0 r1 x2_ r1 ((-1) : Int32))))))))))) _ hF
  obtain ⟨mc4, ms4, hmc4, hms4⟩ := up_of (moJ9_length u1 r1 _ e4)
  replace hc := cst_call hc hmc4 hms4
  refine h_calli (va_runV (As := []) (rest := [.int x3_, .ref a0]) ⟨hx, hb, hml, hown, hts⟩ (mgJ9_length l D A u1 r1 _ e4 mc4 ms4 hmc4 hms4) (cwV 0 hts (lw_V q1517 q373 q374 q113 q375) rfl rfl rfl (by decide +kernel) ⟨Nat.le_of_ble_eq_true rfl, Nat.le_of_ble_eq_true rfl⟩) (h_preV hGr hr hS ec4 (by decide) (q := (RJ9, TJ9, 4)) rfl _) rfl rfl hl.1 rfl (lv_room (Nat.le_of_ble_eq_true rfl)) dX6_statement_16 ⟨(bud hc mm4 hmc hms).1, (bud hc mm4 hmc hms).2⟩) hS (fun rr uu H locs hw hr hS => ?_)
  obtain rfl : u4 = uu := (congrArg Prod.snd hw).symm
  obtain rfl : r4 = rr := (congrArg Prod.fst hw).symm
  refine lv_iadd hx hb dX6_statement_19 ?_
  obtain ⟨fs5, e5, k5, lo5, hF⟩ := pV_s hF
  obtain ⟨h5, eh5⟩ : ∃ z, z = hPut u4 a0 (.inr (5, fs5.set 2 (.int (x3_ + r4)))) := ⟨_, rfl⟩
  rw [← eh5] at hF
  refine h_put (C := RX6) (T := TX6) (N := 5) hx hb hts in_X6 tyX6 tyX6_ok nmX6 hown hGr hr hS e5 (by decide) rfl 2 (by decide) (hts _ q1439) (fun _ h9 => h9) rfl (tyX6_ok 2 (by decide)) rfl rfl k5 lo5 dX6_statement_20 (fun H locs hr hS => ?_)
  rw [← eh5] at hr
  replace hc := cst_put hc eh5
  refine lv_aload_n hx hb dX6_statement_23 rfl (lv_at hl 1 rfl) ?_
  refine lv_astore_n (lv' := [(3, .ref r1), (2, .int x2_), (1, .ref r1), (0, .ref a0)]) hx hb dX6_statement_24 rfl hl (by decide) rfl (fun ls hl => ?_)
  refine lv_iconst (v := (-1)) hx hb dX6_statement_25 (by decide) ?_
  refine lv_istore (lv' := [(4, .int (-1)), (3, .ref r1), (2, .int x2_), (1, .ref r1), (0, .ref a0)]) hx hb dX6_statement_26 hl (by decide) rfl (fun ls hl => ?_)
  refine lv_aload_n hx hb dX6_statement_28 rfl (lv_at hl 1 rfl) ?_
  obtain ⟨fc6, ec6, hF⟩ := gC_s hF
  obtain ⟨r6, u6, e6, hF⟩ := bnd_s hF
  have mm6 : hle u6 out.2 := (show Mo u6 _ from mo_ite (mo_gC (mo_bnd (moJ9_equals n u6 r1 (D.2 316)) hle_rf (fun r8 u8 m8 => mo_ite (mo_tr m8 (ml1 u8 a0 r1 x2_ r1 ((-1) : Int32))) (mo_tr m8 (ml1 u8 a0 r1 x2_ r1 (3 : Int32)))))) (mo_ite (mo_gC (mo_bnd (moJ9_equals n u6 r1 (D.2 313)) hle_rf (fun r11 u11 m11 => mo_ite (mo_tr m11 (ml1 u11 a0 r1 x2_ r1 ((-1) : Int32))) (mo_tr m11 (ml1 u11 a0 r1 x2_ r1 (0 : Int32)))))) (mo_ite (mo_gC (mo_bnd (moJ9_equals n u6 r1 (D.2 317)) hle_rf (fun r14 u14 m14 => mo_ite (mo_tr m14 (ml1 u14 a0 r1 x2_ r1 ((-1) : Int32))) (mo_tr m14 (ml1 u14 a0 r1 x2_ r1 (4 : Int32)))))) (mo_ite (mo_gC (mo_bnd (moJ9_equals n u6 r1 (D.2 315)) hle_rf (fun r17 u17 m17 => mo_ite (mo_tr m17 (ml1 u17 a0 r1 x2_ r1 ((-1) : Int32))) (mo_tr m17 (ml1 u17 a0 r1 x2_ r1 (2 : Int32)))))) (mo_ite (mo_gC (mo_bnd (moJ9_equals n u6 r1 (D.2 314)) hle_rf (fun r20 u20 m20 => mo_ite (mo_tr m20 (ml1 u20 a0 r1 x2_ r1 ((-1) : Int32))) (mo_tr m20 (ml1 u20 a0 r1 x2_ r1 (1 : Int32)))))) (mo_tr hle_rf (ml1 u6 a0 r1 x2_ r1 ((-1) : Int32)))))))) _ hF
  obtain ⟨mc6, ms6, hmc6, hms6⟩ := up_of (moJ9_hashCode n h5 r1 _ e6)
  replace hc := cst_call hc hmc6 hms6
  refine h_calli (va_runV (As := []) (rest := []) ⟨hx, hb, hml, hown, hts⟩ (mgJ9_hashCode l D A h5 n r1 _ e6 mc6 ms6 hmc6 hms6) (cwV 0 hts (lw_V q1544 q1545 q1546 q113 q1547) rfl rfl rfl (by decide +kernel) ⟨Nat.le_of_ble_eq_true rfl, Nat.le_of_ble_eq_true rfl⟩) (h_preV hGr hr hS ec6 (by decide) (q := (RJ9, TJ9, 4)) rfl _) rfl rfl hl.1 rfl (lv_room (Nat.le_of_ble_eq_true rfl)) dX6_statement_29 ⟨(bud hc mm6 hmc hms).1, (bud hc mm6 hmc hms).2⟩) hS (fun rr uu H locs hw hr hS => ?_)
  obtain rfl : u6 = uu := (congrArg Prod.snd hw).symm
  obtain rfl : r6 = rr := (congrArg Prod.fst hw).symm
  rcases Decidable.em (r6 = (-337042364 : Int32)) with c7 | c7
  · replace hF := it_t c7 hF
    refine lv_lookup (off := 97) (tgt := 129) hx hb dX6_statement_32 (by decide) (by rw [c7]; decide) (by decide) ?_
    refine lv_aload_n hx hb dX6_statement_129 rfl (lv_at hl 1 rfl) ?_
    refine va_ldcS hx hb hown (hGr.kst.2.2.2.1 _ (List.mem_of_getElem? (i := 6) rfl)) dX6_statement_130 ?_
    obtain ⟨fc8, ec8, hF⟩ := gC_s hF
    obtain ⟨r8, u8, e8, hF⟩ := bnd_s hF
    have mm8 : hle u8 out.2 := (show Mo u8 _ from mo_ite (mo_tr hle_rf (ml1 u8 a0 r1 x2_ r1 ((-1) : Int32))) (mo_tr hle_rf (ml1 u8 a0 r1 x2_ r1 (3 : Int32)))) _ hF
    obtain ⟨mc8, ms8, hmc8, hms8⟩ := up_of (moJ9_equals n u6 r1 (D.2 316) _ e8)
    replace hc := cst_call hc hmc8 hms8
    refine h_calli (va_runV (As := [.ref (D.2 316)]) (rest := []) ⟨hx, hb, hml, hown, hts⟩ (mgJ9_equals l D A u6 n r1 (D.2 316) _ e8 mc8 ms8 hmc8 hms8) (cwV 1 hts (lw_V q1477 q1478 q1479 q113 q1480) rfl rfl rfl (by decide +kernel) ⟨Nat.le_of_ble_eq_true rfl, Nat.le_of_ble_eq_true rfl⟩) (h_preV hGr hr hS ec8 (by decide) (q := (RJ9, TJ9, 4)) rfl _) rfl rfl hl.1 rfl (lv_room (Nat.le_of_ble_eq_true rfl)) dX6_statement_132 ⟨(bud hc mm8 hmc hms).1, (bud hc mm8 hmc hms).2⟩) hS (fun rr uu H locs hw hr hS => ?_)
    obtain rfl : u8 = uu := (congrArg Prod.snd hw).symm
    obtain rfl : r8 = rr := (congrArg Prod.fst hw).symm
    refine lv_if_eq (tgt := 156) hx hb dX6_statement_135 (by decide) (fun c9 => ?_) (fun c9 => ?_)
    · replace hF := it_t c9 hF
      exact lp1 u8 a0 r1 x2_ r1 ((-1) : Int32) hF _ _ _ _ hc hr hS ls (lv_sub hl [4, 3, 2, 1, 0] rfl)
    · replace hF := it_f c9 hF
      refine lv_iconst (v := 3) hx hb dX6_statement_138 (by decide) ?_
      refine lv_istore (lv' := [(4, .int 3), (3, .ref r1), (2, .int x2_), (1, .ref r1), (0, .ref a0)]) hx hb dX6_statement_139 hl (by decide) rfl (fun ls hl => ?_)
      refine lv_goto (tgt := 156) hx hb dX6_statement_141 (by decide) ?_
      exact lp1 u8 a0 r1 x2_ r1 (3 : Int32) hF _ _ _ _ hc hr hS ls (lv_sub hl [4, 3, 2, 1, 0] rfl)
  · replace hF := it_f c7 hF
    rcases Decidable.em (r6 = (3049826 : Int32)) with c10 | c10
    · replace hF := it_t c10 hF
      refine lv_lookup (off := 52) (tgt := 84) hx hb dX6_statement_32 (by decide) (by rw [c10]; decide) (by decide) ?_
      refine lv_aload_n hx hb dX6_statement_84 rfl (lv_at hl 1 rfl) ?_
      refine va_ldcS hx hb hown (hGr.kst.2.2.2.1 _ (List.mem_of_getElem? (i := 3) rfl)) dX6_statement_85 ?_
      obtain ⟨fc11, ec11, hF⟩ := gC_s hF
      obtain ⟨r11, u11, e11, hF⟩ := bnd_s hF
      have mm11 : hle u11 out.2 := (show Mo u11 _ from mo_ite (mo_tr hle_rf (ml1 u11 a0 r1 x2_ r1 ((-1) : Int32))) (mo_tr hle_rf (ml1 u11 a0 r1 x2_ r1 (0 : Int32)))) _ hF
      obtain ⟨mc11, ms11, hmc11, hms11⟩ := up_of (moJ9_equals n u6 r1 (D.2 313) _ e11)
      replace hc := cst_call hc hmc11 hms11
      refine h_calli (va_runV (As := [.ref (D.2 313)]) (rest := []) ⟨hx, hb, hml, hown, hts⟩ (mgJ9_equals l D A u6 n r1 (D.2 313) _ e11 mc11 ms11 hmc11 hms11) (cwV 1 hts (lw_V q1477 q1478 q1479 q113 q1480) rfl rfl rfl (by decide +kernel) ⟨Nat.le_of_ble_eq_true rfl, Nat.le_of_ble_eq_true rfl⟩) (h_preV hGr hr hS ec11 (by decide) (q := (RJ9, TJ9, 4)) rfl _) rfl rfl hl.1 rfl (lv_room (Nat.le_of_ble_eq_true rfl)) dX6_statement_87 ⟨(bud hc mm11 hmc hms).1, (bud hc mm11 hmc hms).2⟩) hS (fun rr uu H locs hw hr hS => ?_)
      obtain rfl : u11 = uu := (congrArg Prod.snd hw).symm
      obtain rfl : r11 = rr := (congrArg Prod.fst hw).symm
      refine lv_if_eq (tgt := 156) hx hb dX6_statement_90 (by decide) (fun c12 => ?_) (fun c12 => ?_)
      · replace hF := it_t c12 hF
        exact lp1 u11 a0 r1 x2_ r1 ((-1) : Int32) hF _ _ _ _ hc hr hS ls (lv_sub hl [4, 3, 2, 1, 0] rfl)
      · replace hF := it_f c12 hF
        refine lv_iconst (v := 0) hx hb dX6_statement_93 (by decide) ?_
        refine lv_istore (lv' := [(4, .int 0), (3, .ref r1), (2, .int x2_), (1, .ref r1), (0, .ref a0)]) hx hb dX6_statement_94 hl (by decide) rfl (fun ls hl => ?_)
        refine lv_goto (tgt := 156) hx hb dX6_statement_96 (by decide) ?_
        exact lp1 u11 a0 r1 x2_ r1 (0 : Int32) hF _ _ _ _ hc hr hS ls (lv_sub hl [4, 3, 2, 1, 0] rfl)
    · replace hF := it_f c10 hF
      rcases Decidable.em (r6 = (3154575 : Int32)) with c13 | c13
      · replace hF := it_t c13 hF
        refine lv_lookup (off := 112) (tgt := 144) hx hb dX6_statement_32 (by decide) (by rw [c13]; decide) (by decide) ?_
        refine lv_aload_n hx hb dX6_statement_144 rfl (lv_at hl 1 rfl) ?_
        refine va_ldcS hx hb hown (hGr.kst.2.2.2.1 _ (List.mem_of_getElem? (i := 7) rfl)) dX6_statement_145 ?_
        obtain ⟨fc14, ec14, hF⟩ := gC_s hF
        obtain ⟨r14, u14, e14, hF⟩ := bnd_s hF
        have mm14 : hle u14 out.2 := (show Mo u14 _ from mo_ite (mo_tr hle_rf (ml1 u14 a0 r1 x2_ r1 ((-1) : Int32))) (mo_tr hle_rf (ml1 u14 a0 r1 x2_ r1 (4 : Int32)))) _ hF
        obtain ⟨mc14, ms14, hmc14, hms14⟩ := up_of (moJ9_equals n u6 r1 (D.2 317) _ e14)
        replace hc := cst_call hc hmc14 hms14
        refine h_calli (va_runV (As := [.ref (D.2 317)]) (rest := []) ⟨hx, hb, hml, hown, hts⟩ (mgJ9_equals l D A u6 n r1 (D.2 317) _ e14 mc14 ms14 hmc14 hms14) (cwV 1 hts (lw_V q1477 q1478 q1479 q113 q1480) rfl rfl rfl (by decide +kernel) ⟨Nat.le_of_ble_eq_true rfl, Nat.le_of_ble_eq_true rfl⟩) (h_preV hGr hr hS ec14 (by decide) (q := (RJ9, TJ9, 4)) rfl _) rfl rfl hl.1 rfl (lv_room (Nat.le_of_ble_eq_true rfl)) dX6_statement_147 ⟨(bud hc mm14 hmc hms).1, (bud hc mm14 hmc hms).2⟩) hS (fun rr uu H locs hw hr hS => ?_)
        obtain rfl : u14 = uu := (congrArg Prod.snd hw).symm
        obtain rfl : r14 = rr := (congrArg Prod.fst hw).symm
        refine lv_if_eq (tgt := 156) hx hb dX6_statement_150 (by decide) (fun c15 => ?_) (fun c15 => ?_)
        · replace hF := it_t c15 hF
          exact lp1 u14 a0 r1 x2_ r1 ((-1) : Int32) hF _ _ _ _ hc hr hS ls (lv_sub hl [4, 3, 2, 1, 0] rfl)
        · replace hF := it_f c15 hF
          refine lv_iconst (v := 4) hx hb dX6_statement_153 (by decide) ?_
          refine lv_istore (lv' := [(4, .int 4), (3, .ref r1), (2, .int x2_), (1, .ref r1), (0, .ref a0)]) hx hb dX6_statement_154 hl (by decide) rfl (fun ls hl => ?_)
          exact lp1 u14 a0 r1 x2_ r1 (4 : Int32) hF _ _ _ _ hc hr hS ls (lv_sub hl [4, 3, 2, 1, 0] rfl)
      · replace hF := it_f c13 hF
        rcases Decidable.em (r6 = (102976443 : Int32)) with c16 | c16
        · replace hF := it_t c16 hF
          refine lv_lookup (off := 82) (tgt := 114) hx hb dX6_statement_32 (by decide) (by rw [c16]; decide) (by decide) ?_
          refine lv_aload_n hx hb dX6_statement_114 rfl (lv_at hl 1 rfl) ?_
          refine va_ldcS hx hb hown (hGr.kst.2.2.2.1 _ (List.mem_of_getElem? (i := 5) rfl)) dX6_statement_115 ?_
          obtain ⟨fc17, ec17, hF⟩ := gC_s hF
          obtain ⟨r17, u17, e17, hF⟩ := bnd_s hF
          have mm17 : hle u17 out.2 := (show Mo u17 _ from mo_ite (mo_tr hle_rf (ml1 u17 a0 r1 x2_ r1 ((-1) : Int32))) (mo_tr hle_rf (ml1 u17 a0 r1 x2_ r1 (2 : Int32)))) _ hF
          obtain ⟨mc17, ms17, hmc17, hms17⟩ := up_of (moJ9_equals n u6 r1 (D.2 315) _ e17)
          replace hc := cst_call hc hmc17 hms17
          refine h_calli (va_runV (As := [.ref (D.2 315)]) (rest := []) ⟨hx, hb, hml, hown, hts⟩ (mgJ9_equals l D A u6 n r1 (D.2 315) _ e17 mc17 ms17 hmc17 hms17) (cwV 1 hts (lw_V q1477 q1478 q1479 q113 q1480) rfl rfl rfl (by decide +kernel) ⟨Nat.le_of_ble_eq_true rfl, Nat.le_of_ble_eq_true rfl⟩) (h_preV hGr hr hS ec17 (by decide) (q := (RJ9, TJ9, 4)) rfl _) rfl rfl hl.1 rfl (lv_room (Nat.le_of_ble_eq_true rfl)) dX6_statement_117 ⟨(bud hc mm17 hmc hms).1, (bud hc mm17 hmc hms).2⟩) hS (fun rr uu H locs hw hr hS => ?_)
          obtain rfl : u17 = uu := (congrArg Prod.snd hw).symm
          obtain rfl : r17 = rr := (congrArg Prod.fst hw).symm
          refine lv_if_eq (tgt := 156) hx hb dX6_statement_120 (by decide) (fun c18 => ?_) (fun c18 => ?_)
          · replace hF := it_t c18 hF
            exact lp1 u17 a0 r1 x2_ r1 ((-1) : Int32) hF _ _ _ _ hc hr hS ls (lv_sub hl [4, 3, 2, 1, 0] rfl)
          · replace hF := it_f c18 hF
            refine lv_iconst (v := 2) hx hb dX6_statement_123 (by decide) ?_
            refine lv_istore (lv' := [(4, .int 2), (3, .ref r1), (2, .int x2_), (1, .ref r1), (0, .ref a0)]) hx hb dX6_statement_124 hl (by decide) rfl (fun ls hl => ?_)
            refine lv_goto (tgt := 156) hx hb dX6_statement_126 (by decide) ?_
            exact lp1 u17 a0 r1 x2_ r1 (2 : Int32) hF _ _ _ _ hc hr hS ls (lv_sub hl [4, 3, 2, 1, 0] rfl)
        · replace hF := it_f c16 hF
          rcases Decidable.em (r6 = (109757538 : Int32)) with c19 | c19
          · replace hF := it_t c19 hF
            refine lv_lookup (off := 67) (tgt := 99) hx hb dX6_statement_32 (by decide) (by rw [c19]; decide) (by decide) ?_
            refine lv_aload_n hx hb dX6_statement_99 rfl (lv_at hl 1 rfl) ?_
            refine va_ldcS hx hb hown (hGr.kst.2.2.2.1 _ (List.mem_of_getElem? (i := 4) rfl)) dX6_statement_100 ?_
            obtain ⟨fc20, ec20, hF⟩ := gC_s hF
            obtain ⟨r20, u20, e20, hF⟩ := bnd_s hF
            have mm20 : hle u20 out.2 := (show Mo u20 _ from mo_ite (mo_tr hle_rf (ml1 u20 a0 r1 x2_ r1 ((-1) : Int32))) (mo_tr hle_rf (ml1 u20 a0 r1 x2_ r1 (1 : Int32)))) _ hF
            obtain ⟨mc20, ms20, hmc20, hms20⟩ := up_of (moJ9_equals n u6 r1 (D.2 314) _ e20)
            replace hc := cst_call hc hmc20 hms20
            refine h_calli (va_runV (As := [.ref (D.2 314)]) (rest := []) ⟨hx, hb, hml, hown, hts⟩ (mgJ9_equals l D A u6 n r1 (D.2 314) _ e20 mc20 ms20 hmc20 hms20) (cwV 1 hts (lw_V q1477 q1478 q1479 q113 q1480) rfl rfl rfl (by decide +kernel) ⟨Nat.le_of_ble_eq_true rfl, Nat.le_of_ble_eq_true rfl⟩) (h_preV hGr hr hS ec20 (by decide) (q := (RJ9, TJ9, 4)) rfl _) rfl rfl hl.1 rfl (lv_room (Nat.le_of_ble_eq_true rfl)) dX6_statement_102 ⟨(bud hc mm20 hmc hms).1, (bud hc mm20 hmc hms).2⟩) hS (fun rr uu H locs hw hr hS => ?_)
            obtain rfl : u20 = uu := (congrArg Prod.snd hw).symm
            obtain rfl : r20 = rr := (congrArg Prod.fst hw).symm
            refine lv_if_eq (tgt := 156) hx hb dX6_statement_105 (by decide) (fun c21 => ?_) (fun c21 => ?_)
            · replace hF := it_t c21 hF
              exact lp1 u20 a0 r1 x2_ r1 ((-1) : Int32) hF _ _ _ _ hc hr hS ls (lv_sub hl [4, 3, 2, 1, 0] rfl)
            · replace hF := it_f c21 hF
              refine lv_iconst (v := 1) hx hb dX6_statement_108 (by decide) ?_
              refine lv_istore (lv' := [(4, .int 1), (3, .ref r1), (2, .int x2_), (1, .ref r1), (0, .ref a0)]) hx hb dX6_statement_109 hl (by decide) rfl (fun ls hl => ?_)
              refine lv_goto (tgt := 156) hx hb dX6_statement_111 (by decide) ?_
              exact lp1 u20 a0 r1 x2_ r1 (1 : Int32) hF _ _ _ _ hc hr hS ls (lv_sub hl [4, 3, 2, 1, 0] rfl)
          · replace hF := it_f c19 hF
            refine lv_lookup (off := 124) (tgt := 156) hx hb dX6_statement_32 (by decide) (lk_out (ps := [(-337042364, 97), (3049826, 52), (3154575, 112), (102976443, 82), (109757538, 67)]) (fun q hq => by
                simp only [List.mem_cons, List.not_mem_nil, or_false] at hq
                rcases hq with rfl | rfl | rfl | rfl | rfl
                · exact lk_ne (-337042364 : Int32) (by decide) c7
                · exact lk_ne (3049826 : Int32) (by decide) c10
                · exact lk_ne (3154575 : Int32) (by decide) c13
                · exact lk_ne (102976443 : Int32) (by decide) c16
                · exact lk_ne (109757538 : Int32) (by decide) c19)) (by decide) ?_
            exact lp1 u6 a0 r1 x2_ r1 ((-1) : Int32) hF _ _ _ _ hc hr hS ls (lv_sub hl [4, 3, 2, 1, 0] rfl)

def GX6_read_1 (kz : Nat → Nat) (R : Nat → Hp → Nat → Int32 → Option ((Nat ⊕ Xq) × Hp)) (n : Nat) (h : Hp) (b0 : Nat) (x1 : Int32) : Option ((Nat ⊕ Xq) × Hp) := gC h b0 5 (bnd (GX6_peek n h b0) (fun r12 u12 => if r12 = (-1) then gQ u12 b0 5 1 (fun x14_ => some (.inl x14_, u12)) else gC u12 b0 5 (bnx (GX6_statement kz n u12 b0) (fun r15 u15 => R 1 u15 b0 x1))))
def GX6_read_r (kz : Nat → Nat) : Nat → Nat → Hp → Nat → Int32 → Option ((Nat ⊕ Xq) × Hp)
  | 0 => fun _ _ _ _ => none
  | n + 1 => fun k => match k with  | _ => GX6_read_1 kz (GX6_read_r kz n) n
def GX6_read_0 (kz : Nat → Nat) (R : Nat → Hp → Nat → Int32 → Option ((Nat ⊕ Xq) × Hp)) (n : Nat) (h : Hp) (a0 : Nat) : Option ((Nat ⊕ Xq) × Hp) := gC h a0 5 (bnx (GX6_keyword kz n h a0 (kz 311)) (fun r1 u1 => gC u1 a0 5 (bnx (GX6_number kz n u1 a0 (3 : Int32) (97 : Int32)) (fun r2 u2 => bnd (GX3_isPrime n u2 r2) (fun r3 u3 => gI u3 a0 5 3 (fun x4_ => gC u3 a0 5 (bnx (GX6_require kz u3 a0 r3 ((-3) : Int32) x4_) (fun r5 u5 => gC u5 a0 5 (bnx (GX6_keyword kz n u5 a0 (kz 312)) (fun r6 u6 => nW u6 2 [.null, .int 0, .null, .null, .int 0, .int 0, .int 0, .null, .null, .int 0, .int 0] 11 (fun a7_ h7 => gC h7 a0 5 (bnx (GX6_number kz n h7 a0 (1 : Int32) (8 : Int32)) (fun r8 u8 => bnd (GX2_init_2 n u8 a7_ r2 r8) (fun r9 u9 => pV u9 a0 5 1 (.ref a7_) (fun h10 => gC h10 a0 5 (bnx (GX6_semicolon kz n h10 a0) (fun r11 u11 => R 1 u11 a0 r2)))))))))))))))))
def GX6_read (kz : Nat → Nat) (n : Nat) (h : Hp) (a0 : Nat) : Option ((Nat ⊕ Xq) × Hp) := GX6_read_0 kz (GX6_read_r kz n) n h a0
theorem moX6_read_r (kz : Nat → Nat) (n : Nat) : (∀ (h : Hp) (b0 : Nat) (x1 : Int32), Mo h (GX6_read_r kz n 1 h b0 x1)) := by
  induction n with
  | zero => exact (fun _ _ _ => mo_no)
  | succ n ih =>
    have ml1 := ih
    exact (fun h b0 x1 => show Mo h (GX6_read_1 kz (GX6_read_r kz n) n h b0 x1) from by unfold GX6_read_1; exact mo_gC (mo_bnd (moX6_peek n h b0) hle_rf (fun r12 u12 m12 => mo_ite (mo_gQ (fun x14_ => mo_ret m12)) (mo_gC (mo_bnx (moX6_statement kz n u12 b0) m12 (fun r15 u15 m15 => mo_tr m15 (ml1 u15 b0 x1)))))))
theorem moX6_read (kz : Nat → Nat) (n : Nat) (h : Hp) (a0 : Nat) : Mo h (GX6_read kz n h a0) := by
  have ml1 := moX6_read_r kz n
  unfold GX6_read GX6_read_0
  exact mo_gC (mo_bnx (moX6_keyword kz n h a0 (kz 311)) hle_rf (fun r1 u1 m1 => mo_gC (mo_bnx (moX6_number kz n u1 a0 (3 : Int32) (97 : Int32)) m1 (fun r2 u2 m2 => mo_bnd (moX3_isPrime n u2 r2) m2 (fun r3 u3 m3 => mo_gI (fun x4_ => mo_gC (mo_bnx (moX6_require kz u3 a0 r3 ((-3) : Int32) x4_) m3 (fun r5 u5 m5 => mo_gC (mo_bnx (moX6_keyword kz n u5 a0 (kz 312)) m5 (fun r6 u6 m6 => mo_nW m6 (fun a7_ h7 m7 => mo_gC (mo_bnx (moX6_number kz n h7 a0 (1 : Int32) (8 : Int32)) m7 (fun r8 u8 m8 => mo_bnd (moX2_init_2 n u8 a7_ r2 r8) m8 (fun r9 u9 m9 => mo_pV m9 (fun h10 m10 => mo_gC (mo_bnx (moX6_semicolon kz n h10 a0) m10 (fun r11 u11 m11 => mo_tr m11 (ml1 u11 a0 r2))))))))))))))))))
set_option maxHeartbeats 4000000 in
set_option maxRecDepth 100000 in
theorem mgX6_read (l : Launch) (hl0 : l.stackTraces = false) (D : HD) (A : Nat → Prop) (h : Hp) (n : Nat) (a0 : Nat) (out : (Nat ⊕ Xq) × Hp) (hF : GX6_read D.2 n h a0 = some out) (mc ms : Nat) (hmc : hCc out.2 = hCc h + mc) (hms : hSl out.2 = hSl h + ms) : vx_Met l yX6_read (ws_ yX6_read cX6_read 2 (some (.object "ExactChains$Process"))) ({ frames := 11, cells := mc, slots := ms, locals := 3169 }) (va_Pc [.ref a0] (hW D A h)) (va_Qr (fun _ : Hp => True) (fun u r t => ((.inl r : Nat ⊕ Xq), u) = out ∧ hW D A u t) A) (xC D A out) mc ms A := by
  refine vx_ofW (cc := cX6_read) (maxL := 2) (ret := (some (.object "ExactChains$Process"))) (by decide +kernel) rfl ?_
  intro p e s m args below meth c s₁ B hml htb hv
  obtain ⟨rfl, hr, hGr⟩ := hv
  have hx := B.exec
  have hb := B.bytes
  have hret := B.returns
  have hts := atoms_spec (ws := (ws_ yX6_read cX6_read 2 (some (.object "ExactChains$Process")))) B.pre
  have hts : ∀ w ∈ lw_all, w.before _ s = true := fun w h => hts w (List.mem_cons_of_mem _ h)
  have hown : s.vm.findClass RX6 = some m.cls := findClass_of_methodNamed B.named
  have hlocks := B.notSynchronized
  have hS : va_S A s.heap s.heap [] := va_S.rf
  have hc : cst h 0 0 h := cst_0
  have hl := lv_entry ([.ref a0]) (n := 2) (Nat.le_of_ble_eq_true rfl)
  rw [lg_entry_eq]
  generalize (lg_sl ([.ref a0]) ++ List.replicate (2 - (lg_sl ([.ref a0])).length) Slot.unset).toArray = ls at hl ⊢
  have hl : lv_has ls 2 [(0, .ref a0)] := hl
  obtain ⟨h0, eh0⟩ : ∃ z, z = h := ⟨_, rfl⟩
  rw [← eh0] at hmc hms
  have loop : ∀ n : Nat, (∀ (h : Hp) (b0 : Nat) (x1 : Int32), GX6_read_r D.2 n 1 h b0 x1 = some out → ∀ (H : Heap) (locs : List Loc) (cells slots : Nat), cst h0 cells slots h → hR D A h H → va_S A s.heap H locs → ∀ ls : Array Slot, lv_has ls 2 [(0, .ref b0), (1, .int x1)] → W p l e (headSpec (ws_ yX6_read cX6_read 2 (some (.object "ExactChains$Process"))) ({ frames := 11, cells := mc, slots := ms, locals := 3169 })).room s m ([.ref a0] : List Value).toArray below meth c H locs cells slots (vx_MQ below (va_Qr (fun _ : Hp => True) (fun u r t => ((.inl r : Nat ⊕ Xq), u) = out ∧ hW D A u t) A) (xC D A out) ([.ref a0] : List Value).toArray s mc ms A) (F0 m 57 ls [])) := by
    intro n
    induction n with
    | zero => exact (fun _ _ _ h => nomatch h)
    | succ n ih =>
      have lp1 := ih
      have ml1 := moX6_read_r D.2 n
      intro h b0 x1 hF H locs cells slots hc hr hS ls hl
      replace hF : GX6_read_1 D.2 (GX6_read_r D.2 n) n h b0 x1 = some out := hF
      unfold GX6_read_1 at hF
      refine lv_aload_n hx hb dX6_read_57 rfl (lv_at hl 0 rfl) ?_
      obtain ⟨fc12, ec12, hF⟩ := gC_s hF
      obtain ⟨r12, u12, e12, hF⟩ := bnd_s hF
      have mm12 : hle u12 out.2 := (show Mo u12 _ from mo_ite (mo_gQ (fun x14_ => mo_ret hle_rf)) (mo_gC (mo_bnx (moX6_statement D.2 n u12 b0) hle_rf (fun r15 u15 m15 => mo_tr m15 (ml1 u15 b0 x1))))) _ hF
      obtain ⟨mc12, ms12, hmc12, hms12⟩ := up_of (moX6_peek n h b0 _ e12)
      replace hc := cst_call hc hmc12 hms12
      refine h_calli (va_runV (As := []) (rest := []) ⟨hx, hb, hml, hown, hts⟩ (mgX6_peek l D A h n b0 _ e12 mc12 ms12 hmc12 hms12) (cwV 0 hts (lw_V q1468 q1470 qs29 q134 q1471) rfl rfl rfl (by decide +kernel) ⟨Nat.le_of_ble_eq_true rfl, Nat.le_of_ble_eq_true rfl⟩) (h_preV hGr hr hS ec12 (by decide) (q := (RX6, TX6, 5)) rfl _) rfl rfl hl.1 rfl (lv_room (Nat.le_of_ble_eq_true rfl)) dX6_read_58 ⟨(bud hc mm12 hmc hms).1, (bud hc mm12 hmc hms).2⟩) hS (fun rr uu H locs hw hr hS => ?_)
      obtain rfl : u12 = uu := (congrArg Prod.snd hw).symm
      obtain rfl : r12 = rr := (congrArg Prod.fst hw).symm
      refine lv_iconst (v := (-1)) hx hb dX6_read_61 (by decide) ?_
      refine lv_icmp_eq (tgt := 72) hx hb dX6_read_62 (by decide) (fun c13 => ?_) (fun c13 => ?_)
      · replace hF := it_t c13 hF
        refine lv_aload_n hx hb dX6_read_72 rfl (lv_at hl 0 rfl) ?_
        obtain ⟨fs14, x14_, e14, f14, hF⟩ := gQ_s hF
        refine h_get (C := RX6) (T := TX6) (N := 5) hx hb hts in_X6 hown hGr hr e14 (by decide) rfl 1 (by decide) (hts _ q1438) (fun _ h9 => h9) f14 dX6_read_73 ?_
        have bz := bud_r hc hF hmc hms
        refine vx_ret ?_
        refine W.widen (k := mc) (n := ms) bz.1 bz.2 ?_
        exact W.aret (v := .ref x14_) hx hb hret (Or.inl ⟨_, rfl⟩) (Or.inr ⟨_, rfl⟩) (fun t ht hWm => ⟨⟨u12, x14_, rfl, trivial, Option.some.inj hF, h_end hGr hr hS ht hWm⟩, hS.F ht⟩) hS.2.2 dX6_read_76
      · replace hF := it_f c13 hF
        refine lv_aload_n hx hb dX6_read_65 rfl (lv_at hl 0 rfl) ?_
        obtain ⟨fc15, ec15, hF⟩ := gC_s hF
        rcases bnx_s hF with ⟨r15, u15, e15, hF⟩ | ⟨q15, u15, e15, hF⟩
        rotate_left
        · obtain ⟨mc15, ms15, hmc15, hms15⟩ := up_of (moX6_statement D.2 n u12 b0 _ e15)
          have hcx := cst_call hc hmc15 hms15
          have bx15 := bud_r hcx hF hmc hms
          refine h_xthrv rfl (vx_runV (As := []) (rest := []) ⟨hx, hb, hml, hown, hts⟩ (mgX6_statement l hl0 D A u12 n b0 _ e15 mc15 ms15 hmc15 hms15) (cwV 0 hts (lw_V q1540 q1542 qs34 q134 q1543) rfl rfl rfl (by decide +kernel) ⟨Nat.le_of_ble_eq_true rfl, Nat.le_of_ble_eq_true rfl⟩) (h_preV hGr hr hS ec15 (by decide) (q := (RX6, TX6, 5)) rfl _) rfl rfl hl.1 rfl (lv_room (Nat.le_of_ble_eq_true rfl)) dX6_read_66 ⟨bx15.1, bx15.2⟩) hS (fun E9 q9 u9 H locs ce9 e1 e2 e3 hr hS h1 h2 h3 => ?_)
          exact h_xpass hGr htb hlocks hF bx15 e1 e2 e3 hr hS h1 h2 h3
        have mm15 : hle u15 out.2 := (show Mo u15 _ from mo_tr hle_rf (ml1 u15 b0 x1)) _ hF
        obtain ⟨mc15, ms15, hmc15, hms15⟩ := up_of (moX6_statement D.2 n u12 b0 _ e15)
        replace hc := cst_call hc hmc15 hms15
        refine h_xretv rfl (vx_runV (As := []) (rest := []) ⟨hx, hb, hml, hown, hts⟩ (mgX6_statement l hl0 D A u12 n b0 _ e15 mc15 ms15 hmc15 hms15) (cwV 0 hts (lw_V q1540 q1542 qs34 q134 q1543) rfl rfl rfl (by decide +kernel) ⟨Nat.le_of_ble_eq_true rfl, Nat.le_of_ble_eq_true rfl⟩) (h_preV hGr hr hS ec15 (by decide) (q := (RX6, TX6, 5)) rfl _) rfl rfl hl.1 rfl (lv_room (Nat.le_of_ble_eq_true rfl)) dX6_read_66 ⟨(bud hc mm15 hmc hms).1, (bud hc mm15 hmc hms).2⟩) hS (fun H locs hr hS => ?_)
        refine lv_goto (tgt := 57) hx hb dX6_read_69 (by decide) ?_
        exact lp1 u15 b0 x1 hF _ _ _ _ hc hr hS ls (lv_sub hl [0, 1] rfl)
  have lp1 := loop n
  have ml1 := moX6_read_r D.2 n
  have hc : cst h0 0 0 h := by rw [eh0]; exact cst_0
  unfold GX6_read GX6_read_0 at hF
  refine lv_aload_n hx hb dX6_read_0 rfl (lv_at hl 0 rfl) ?_
  refine va_ldcS hx hb hown (hGr.kst.2.2.2.1 _ (List.mem_of_getElem? (i := 1) rfl)) dX6_read_1 ?_
  obtain ⟨fc1, ec1, hF⟩ := gC_s hF
  rcases bnx_s hF with ⟨r1, u1, e1, hF⟩ | ⟨q1, u1, e1, hF⟩
  rotate_left
  · obtain ⟨mc1, ms1, hmc1, hms1⟩ := up_of (moX6_keyword D.2 n h a0 (D.2 311) _ e1)
    have hcx := cst_call hc hmc1 hms1
    have bx1 := bud_r hcx hF hmc hms
    refine h_xthrv rfl (vx_runV (As := [.ref (D.2 311)]) (rest := []) ⟨hx, hb, hml, hown, hts⟩ (mgX6_keyword l hl0 D A h n a0 (D.2 311) _ e1 mc1 ms1 hmc1 hms1) (cwV 1 hts (lw_V q1458 q1460 qs27 q134 q1461) rfl rfl rfl (by decide +kernel) ⟨Nat.le_of_ble_eq_true rfl, Nat.le_of_ble_eq_true rfl⟩) (h_preV hGr hr hS ec1 (by decide) (q := (RX6, TX6, 5)) rfl _) rfl rfl hl.1 rfl (lv_room (Nat.le_of_ble_eq_true rfl)) dX6_read_3 ⟨bx1.1, bx1.2⟩) hS (fun E9 q9 u9 H locs ce9 e1 e2 e3 hr hS h1 h2 h3 => ?_)
    exact h_xpass hGr htb hlocks hF bx1 e1 e2 e3 hr hS h1 h2 h3
  have mm1 : hle u1 out.2 := (show Mo u1 _ from mo_gC (mo_bnx (moX6_number D.2 n u1 a0 (3 : Int32) (97 : Int32)) hle_rf (fun r2 u2 m2 => mo_bnd (moX3_isPrime n u2 r2) m2 (fun r3 u3 m3 => mo_gI (fun x4_ => mo_gC (mo_bnx (moX6_require D.2 u3 a0 r3 ((-3) : Int32) x4_) m3 (fun r5 u5 m5 => mo_gC (mo_bnx (moX6_keyword D.2 n u5 a0 (D.2 312)) m5 (fun r6 u6 m6 => mo_nW m6 (fun a7_ h7 m7 => mo_gC (mo_bnx (moX6_number D.2 n h7 a0 (1 : Int32) (8 : Int32)) m7 (fun r8 u8 m8 => mo_bnd (moX2_init_2 n u8 a7_ r2 r8) m8 (fun r9 u9 m9 => mo_pV m9 (fun h10 m10 => mo_gC (mo_bnx (moX6_semicolon D.2 n h10 a0) m10 (fun r11 u11 m11 => mo_tr m11 (ml1 u11 a0 r2))))))))))))))))) _ hF
  obtain ⟨mc1, ms1, hmc1, hms1⟩ := up_of (moX6_keyword D.2 n h a0 (D.2 311) _ e1)
  replace hc := cst_call hc hmc1 hms1
  refine h_xretv rfl (vx_runV (As := [.ref (D.2 311)]) (rest := []) ⟨hx, hb, hml, hown, hts⟩ (mgX6_keyword l hl0 D A h n a0 (D.2 311) _ e1 mc1 ms1 hmc1 hms1) (cwV 1 hts (lw_V q1458 q1460 qs27 q134 q1461) rfl rfl rfl (by decide +kernel) ⟨Nat.le_of_ble_eq_true rfl, Nat.le_of_ble_eq_true rfl⟩) (h_preV hGr hr hS ec1 (by decide) (q := (RX6, TX6, 5)) rfl _) rfl rfl hl.1 rfl (lv_room (Nat.le_of_ble_eq_true rfl)) dX6_read_3 ⟨(bud hc mm1 hmc hms).1, (bud hc mm1 hmc hms).2⟩) hS (fun H locs hr hS => ?_)
  refine lv_aload_n hx hb dX6_read_6 rfl (lv_at hl 0 rfl) ?_
  refine lv_iconst (v := 3) hx hb dX6_read_7 (by decide) ?_
  refine lv_bipush (v := 97) hx hb dX6_read_8 (by decide) ?_
  obtain ⟨fc2, ec2, hF⟩ := gC_s hF
  rcases bnx_s hF with ⟨r2, u2, e2, hF⟩ | ⟨q2, u2, e2, hF⟩
  rotate_left
  · obtain ⟨mc2, ms2, hmc2, hms2⟩ := up_of (moX6_number D.2 n u1 a0 (3 : Int32) (97 : Int32) _ e2)
    have hcx := cst_call hc hmc2 hms2
    have bx2 := bud_r hcx hF hmc hms
    refine h_xthri rfl (vx_runV (As := [.int 3, .int 97]) (rest := []) ⟨hx, hb, hml, hown, hts⟩ (mgX6_number l hl0 D A u1 n a0 (3 : Int32) (97 : Int32) _ e2 mc2 ms2 hmc2 hms2) (cwV 2 hts (lw_V q1518 q1520 qs31 q134 q1521) rfl rfl rfl (by decide +kernel) ⟨Nat.le_of_ble_eq_true rfl, Nat.le_of_ble_eq_true rfl⟩) (h_preV hGr hr hS ec2 (by decide) (q := (RX6, TX6, 5)) rfl _) rfl rfl hl.1 rfl (lv_room (Nat.le_of_ble_eq_true rfl)) dX6_read_10 ⟨bx2.1, bx2.2⟩) hS (fun E9 q9 u9 H locs ce9 e1 e2 e3 hr hS h1 h2 h3 => ?_)
    exact h_xpass hGr htb hlocks hF bx2 e1 e2 e3 hr hS h1 h2 h3
  have mm2 : hle u2 out.2 := (show Mo u2 _ from mo_bnd (moX3_isPrime n u2 r2) hle_rf (fun r3 u3 m3 => mo_gI (fun x4_ => mo_gC (mo_bnx (moX6_require D.2 u3 a0 r3 ((-3) : Int32) x4_) m3 (fun r5 u5 m5 => mo_gC (mo_bnx (moX6_keyword D.2 n u5 a0 (D.2 312)) m5 (fun r6 u6 m6 => mo_nW m6 (fun a7_ h7 m7 => mo_gC (mo_bnx (moX6_number D.2 n h7 a0 (1 : Int32) (8 : Int32)) m7 (fun r8 u8 m8 => mo_bnd (moX2_init_2 n u8 a7_ r2 r8) m8 (fun r9 u9 m9 => mo_pV m9 (fun h10 m10 => mo_gC (mo_bnx (moX6_semicolon D.2 n h10 a0) m10 (fun r11 u11 m11 => mo_tr m11 (ml1 u11 a0 r2))))))))))))))) _ hF
  obtain ⟨mc2, ms2, hmc2, hms2⟩ := up_of (moX6_number D.2 n u1 a0 (3 : Int32) (97 : Int32) _ e2)
  replace hc := cst_call hc hmc2 hms2
  refine h_xreti rfl (vx_runV (As := [.int 3, .int 97]) (rest := []) ⟨hx, hb, hml, hown, hts⟩ (mgX6_number l hl0 D A u1 n a0 (3 : Int32) (97 : Int32) _ e2 mc2 ms2 hmc2 hms2) (cwV 2 hts (lw_V q1518 q1520 qs31 q134 q1521) rfl rfl rfl (by decide +kernel) ⟨Nat.le_of_ble_eq_true rfl, Nat.le_of_ble_eq_true rfl⟩) (h_preV hGr hr hS ec2 (by decide) (q := (RX6, TX6, 5)) rfl _) rfl rfl hl.1 rfl (lv_room (Nat.le_of_ble_eq_true rfl)) dX6_read_10 ⟨(bud hc mm2 hmc hms).1, (bud hc mm2 hmc hms).2⟩) hS (fun H locs hr hS => ?_)
  refine lv_istore_n (lv' := [(1, .int r2), (0, .ref a0)]) hx hb dX6_read_13 rfl hl (by decide) rfl (fun ls hl => ?_)
  refine lv_aload_n hx hb dX6_read_14 rfl (lv_at hl 1 rfl) ?_
  refine lv_iload_n hx hb dX6_read_15 rfl (lv_at hl 0 rfl) ?_
  obtain ⟨r3, u3, e3, hF⟩ := bnd_s hF
  have mm3 : hle u3 out.2 := (show Mo u3 _ from mo_gI (fun x4_ => mo_gC (mo_bnx (moX6_require D.2 u3 a0 r3 ((-3) : Int32) x4_) hle_rf (fun r5 u5 m5 => mo_gC (mo_bnx (moX6_keyword D.2 n u5 a0 (D.2 312)) m5 (fun r6 u6 m6 => mo_nW m6 (fun a7_ h7 m7 => mo_gC (mo_bnx (moX6_number D.2 n h7 a0 (1 : Int32) (8 : Int32)) m7 (fun r8 u8 m8 => mo_bnd (moX2_init_2 n u8 a7_ r2 r8) m8 (fun r9 u9 m9 => mo_pV m9 (fun h10 m10 => mo_gC (mo_bnx (moX6_semicolon D.2 n h10 a0) m10 (fun r11 u11 m11 => mo_tr m11 (ml1 u11 a0 r2)))))))))))))) _ hF
  obtain ⟨mc3, ms3, hmc3, hms3⟩ := up_of (moX3_isPrime n u2 r2 _ e3)
  replace hc := cst_call hc hmc3 hms3
  refine h_calli (va_runS (As := [.int r2]) (rest := [.ref a0]) ⟨hx, hb, hml, hown, hts⟩ (mgX3_isPrime l D A u2 n r2 _ e3 mc3 ms3 hmc3 hms3) (va_cwS 1 hts (lw_S q1530 q1531 q103 q1532) rfl rfl rfl (by decide +kernel) ⟨Nat.le_of_ble_eq_true rfl, Nat.le_of_ble_eq_true rfl⟩) (h_preS hGr hr hS _) rfl rfl hl.1 rfl (lv_room (Nat.le_of_ble_eq_true rfl)) dX6_read_16 ⟨(bud hc mm3 hmc hms).1, (bud hc mm3 hmc hms).2⟩) hS (fun rr uu H locs hw hr hS => ?_)
  obtain rfl : u3 = uu := (congrArg Prod.snd hw).symm
  obtain rfl : r3 = rr := (congrArg Prod.fst hw).symm
  refine lv_bipush (v := (-3)) hx hb dX6_read_19 (by decide) ?_
  refine lv_aload_n hx hb dX6_read_21 rfl (lv_at hl 1 rfl) ?_
  obtain ⟨fs4, x4_, e4, f4, hF⟩ := gI_s hF
  refine h_get (C := RX6) (T := TX6) (N := 5) hx hb hts in_X6 hown hGr hr e4 (by decide) rfl 3 (by decide) (hts _ q1440) (fun _ h9 => h9) f4 dX6_read_22 ?_
  obtain ⟨fc5, ec5, hF⟩ := gC_s hF
  rcases bnx_s hF with ⟨r5, u5, e5, hF⟩ | ⟨q5, u5, e5, hF⟩
  rotate_left
  · obtain ⟨mc5, ms5, hmc5, hms5⟩ := up_of (moX6_require D.2 u3 a0 r3 ((-3) : Int32) x4_ _ e5)
    have hcx := cst_call hc hmc5 hms5
    have bx5 := bud_r hcx hF hmc hms
    refine h_xthrv rfl (vx_runV (As := [.int r3, .int (-3), .int x4_]) (rest := []) ⟨hx, hb, hml, hown, hts⟩ (mgX6_require l hl0 D A u3 a0 r3 ((-3) : Int32) x4_ _ e5 mc5 ms5 hmc5 hms5) (cwV 3 hts (lw_V q1485 q1487 qs30 q134 q1488) rfl rfl rfl (by decide +kernel) ⟨Nat.le_of_ble_eq_true rfl, Nat.le_of_ble_eq_true rfl⟩) (h_preV hGr hr hS ec5 (by decide) (q := (RX6, TX6, 5)) rfl _) rfl rfl hl.1 rfl (lv_room (Nat.le_of_ble_eq_true rfl)) dX6_read_25 ⟨bx5.1, bx5.2⟩) hS (fun E9 q9 u9 H locs ce9 e1 e2 e3 hr hS h1 h2 h3 => ?_)
    exact h_xpass hGr htb hlocks hF bx5 e1 e2 e3 hr hS h1 h2 h3
  have mm5 : hle u5 out.2 := (show Mo u5 _ from mo_gC (mo_bnx (moX6_keyword D.2 n u5 a0 (D.2 312)) hle_rf (fun r6 u6 m6 => mo_nW m6 (fun a7_ h7 m7 => mo_gC (mo_bnx (moX6_number D.2 n h7 a0 (1 : Int32) (8 : Int32)) m7 (fun r8 u8 m8 => mo_bnd (moX2_init_2 n u8 a7_ r2 r8) m8 (fun r9 u9 m9 => mo_pV m9 (fun h10 m10 => mo_gC (mo_bnx (moX6_semicolon D.2 n h10 a0) m10 (fun r11 u11 m11 => mo_tr m11 (ml1 u11 a0 r2))))))))))) _ hF
  obtain ⟨mc5, ms5, hmc5, hms5⟩ := up_of (moX6_require D.2 u3 a0 r3 ((-3) : Int32) x4_ _ e5)
  replace hc := cst_call hc hmc5 hms5
  refine h_xretv rfl (vx_runV (As := [.int r3, .int (-3), .int x4_]) (rest := []) ⟨hx, hb, hml, hown, hts⟩ (mgX6_require l hl0 D A u3 a0 r3 ((-3) : Int32) x4_ _ e5 mc5 ms5 hmc5 hms5) (cwV 3 hts (lw_V q1485 q1487 qs30 q134 q1488) rfl rfl rfl (by decide +kernel) ⟨Nat.le_of_ble_eq_true rfl, Nat.le_of_ble_eq_true rfl⟩) (h_preV hGr hr hS ec5 (by decide) (q := (RX6, TX6, 5)) rfl _) rfl rfl hl.1 rfl (lv_room (Nat.le_of_ble_eq_true rfl)) dX6_read_25 ⟨(bud hc mm5 hmc hms).1, (bud hc mm5 hmc hms).2⟩) hS (fun H locs hr hS => ?_)
  refine lv_aload_n hx hb dX6_read_28 rfl (lv_at hl 1 rfl) ?_
  refine va_ldcS hx hb hown (hGr.kst.2.2.2.1 _ (List.mem_of_getElem? (i := 2) rfl)) dX6_read_29 ?_
  obtain ⟨fc6, ec6, hF⟩ := gC_s hF
  rcases bnx_s hF with ⟨r6, u6, e6, hF⟩ | ⟨q6, u6, e6, hF⟩
  rotate_left
  · obtain ⟨mc6, ms6, hmc6, hms6⟩ := up_of (moX6_keyword D.2 n u5 a0 (D.2 312) _ e6)
    have hcx := cst_call hc hmc6 hms6
    have bx6 := bud_r hcx hF hmc hms
    refine h_xthrv rfl (vx_runV (As := [.ref (D.2 312)]) (rest := []) ⟨hx, hb, hml, hown, hts⟩ (mgX6_keyword l hl0 D A u5 n a0 (D.2 312) _ e6 mc6 ms6 hmc6 hms6) (cwV 1 hts (lw_V q1458 q1460 qs27 q134 q1461) rfl rfl rfl (by decide +kernel) ⟨Nat.le_of_ble_eq_true rfl, Nat.le_of_ble_eq_true rfl⟩) (h_preV hGr hr hS ec6 (by decide) (q := (RX6, TX6, 5)) rfl _) rfl rfl hl.1 rfl (lv_room (Nat.le_of_ble_eq_true rfl)) dX6_read_31 ⟨bx6.1, bx6.2⟩) hS (fun E9 q9 u9 H locs ce9 e1 e2 e3 hr hS h1 h2 h3 => ?_)
    exact h_xpass hGr htb hlocks hF bx6 e1 e2 e3 hr hS h1 h2 h3
  have mm6 : hle u6 out.2 := (show Mo u6 _ from mo_nW hle_rf (fun a7_ h7 m7 => mo_gC (mo_bnx (moX6_number D.2 n h7 a0 (1 : Int32) (8 : Int32)) m7 (fun r8 u8 m8 => mo_bnd (moX2_init_2 n u8 a7_ r2 r8) m8 (fun r9 u9 m9 => mo_pV m9 (fun h10 m10 => mo_gC (mo_bnx (moX6_semicolon D.2 n h10 a0) m10 (fun r11 u11 m11 => mo_tr m11 (ml1 u11 a0 r2))))))))) _ hF
  obtain ⟨mc6, ms6, hmc6, hms6⟩ := up_of (moX6_keyword D.2 n u5 a0 (D.2 312) _ e6)
  replace hc := cst_call hc hmc6 hms6
  refine h_xretv rfl (vx_runV (As := [.ref (D.2 312)]) (rest := []) ⟨hx, hb, hml, hown, hts⟩ (mgX6_keyword l hl0 D A u5 n a0 (D.2 312) _ e6 mc6 ms6 hmc6 hms6) (cwV 1 hts (lw_V q1458 q1460 qs27 q134 q1461) rfl rfl rfl (by decide +kernel) ⟨Nat.le_of_ble_eq_true rfl, Nat.le_of_ble_eq_true rfl⟩) (h_preV hGr hr hS ec6 (by decide) (q := (RX6, TX6, 5)) rfl _) rfl rfl hl.1 rfl (lv_room (Nat.le_of_ble_eq_true rfl)) dX6_read_31 ⟨(bud hc mm6 hmc hms).1, (bud hc mm6 hmc hms).2⟩) hS (fun H locs hr hS => ?_)
  refine lv_aload_n hx hb dX6_read_34 rfl (lv_at hl 1 rfl) ?_
  obtain ⟨a7_, h7, ea7, eh7, hF⟩ := nW_s hF
  have mm7 : hle h7 out.2 := (show Mo h7 _ from mo_gC (mo_bnx (moX6_number D.2 n h7 a0 (1 : Int32) (8 : Int32)) hle_rf (fun r8 u8 m8 => mo_bnd (moX2_init_2 n u8 a7_ r2 r8) m8 (fun r9 u9 m9 => mo_pV m9 (fun h10 m10 => mo_gC (mo_bnx (moX6_semicolon D.2 n h10 a0) m10 (fun r11 u11 m11 => mo_tr m11 (ml1 u11 a0 r2)))))))) _ hF
  replace hc := cst_new hc eh7
  refine h_new (C := RX2) (T := TX2) (N := 11) hx hb hts in_X2 tyX2 tyX2_ok hown (hts _ q1534) (hts _ q152) (hts _ q102) hGr hr hS (ci := 2) (by decide) rfl (fs := [.null, .int 0, .null, .null, .int 0, .int 0, .int 0, .null, .null, .int 0, .int 0]) (fun j hj => by match j, hj with | 0, _ => rfl | 1, _ => rfl | 2, _ => rfl | 3, _ => rfl | 4, _ => rfl | 5, _ => rfl | 6, _ => rfl | 7, _ => rfl | 8, _ => rfl | 9, _ => rfl | 10, _ => rfl | j + 11, hj => omega) (bud hc mm7 hmc hms).1 (bud hc mm7 hmc hms).2 dX6_read_35 (fun H hr hS => ?_)
  rw [← eh7] at hr
  rw [← ea7]
  refine lv_dup hx hb dX6_read_38 rfl ?_
  refine lv_iload_n hx hb dX6_read_39 rfl (lv_at hl 0 rfl) ?_
  refine lv_aload_n hx hb dX6_read_40 rfl (lv_at hl 1 rfl) ?_
  refine lv_iconst (v := 1) hx hb dX6_read_41 (by decide) ?_
  refine lv_bipush (v := 8) hx hb dX6_read_42 (by decide) ?_
  obtain ⟨fc8, ec8, hF⟩ := gC_s hF
  rcases bnx_s hF with ⟨r8, u8, e8, hF⟩ | ⟨q8, u8, e8, hF⟩
  rotate_left
  · obtain ⟨mc8, ms8, hmc8, hms8⟩ := up_of (moX6_number D.2 n h7 a0 (1 : Int32) (8 : Int32) _ e8)
    have hcx := cst_call hc hmc8 hms8
    have bx8 := bud_r hcx hF hmc hms
    refine h_xthri rfl (vx_runV (As := [.int 1, .int 8]) (rest := [.int r2, .ref a7_, .ref a7_, .ref a0]) ⟨hx, hb, hml, hown, hts⟩ (mgX6_number l hl0 D A h7 n a0 (1 : Int32) (8 : Int32) _ e8 mc8 ms8 hmc8 hms8) (cwV 2 hts (lw_V q1518 q1520 qs31 q134 q1521) rfl rfl rfl (by decide +kernel) ⟨Nat.le_of_ble_eq_true rfl, Nat.le_of_ble_eq_true rfl⟩) (h_preV hGr hr hS ec8 (by decide) (q := (RX6, TX6, 5)) rfl _) rfl rfl hl.1 rfl (lv_room (Nat.le_of_ble_eq_true rfl)) dX6_read_44 ⟨bx8.1, bx8.2⟩) hS (fun E9 q9 u9 H locs ce9 e1 e2 e3 hr hS h1 h2 h3 => ?_)
    exact h_xpass hGr htb hlocks hF bx8 e1 e2 e3 hr hS h1 h2 h3
  have mm8 : hle u8 out.2 := (show Mo u8 _ from mo_bnd (moX2_init_2 n u8 a7_ r2 r8) hle_rf (fun r9 u9 m9 => mo_pV m9 (fun h10 m10 => mo_gC (mo_bnx (moX6_semicolon D.2 n h10 a0) m10 (fun r11 u11 m11 => mo_tr m11 (ml1 u11 a0 r2)))))) _ hF
  obtain ⟨mc8, ms8, hmc8, hms8⟩ := up_of (moX6_number D.2 n h7 a0 (1 : Int32) (8 : Int32) _ e8)
  replace hc := cst_call hc hmc8 hms8
  refine h_xreti rfl (vx_runV (As := [.int 1, .int 8]) (rest := [.int r2, .ref a7_, .ref a7_, .ref a0]) ⟨hx, hb, hml, hown, hts⟩ (mgX6_number l hl0 D A h7 n a0 (1 : Int32) (8 : Int32) _ e8 mc8 ms8 hmc8 hms8) (cwV 2 hts (lw_V q1518 q1520 qs31 q134 q1521) rfl rfl rfl (by decide +kernel) ⟨Nat.le_of_ble_eq_true rfl, Nat.le_of_ble_eq_true rfl⟩) (h_preV hGr hr hS ec8 (by decide) (q := (RX6, TX6, 5)) rfl _) rfl rfl hl.1 rfl (lv_room (Nat.le_of_ble_eq_true rfl)) dX6_read_44 ⟨(bud hc mm8 hmc hms).1, (bud hc mm8 hmc hms).2⟩) hS (fun H locs hr hS => ?_)
  obtain ⟨r9, u9, e9, hF⟩ := bnd_s hF
  have mm9 : hle u9 out.2 := (show Mo u9 _ from mo_pV hle_rf (fun h10 m10 => mo_gC (mo_bnx (moX6_semicolon D.2 n h10 a0) m10 (fun r11 u11 m11 => mo_tr m11 (ml1 u11 a0 r2))))) _ hF
  obtain ⟨mc9, ms9, hmc9, hms9⟩ := up_of (moX2_init_2 n u8 a7_ r2 r8 _ e9)
  replace hc := cst_call hc hmc9 hms9
  refine h_callv (va_runI (As := [.int r2, .int r8]) (rest := [.ref a7_, .ref a0]) ⟨hx, hb, hml, hown, hts⟩ (mgX2_init_2 l D A u8 n a7_ r2 r8 _ e9 mc9 ms9 hmc9 hms9) (cwI 2 hts (lw_meth q158) rfl rfl rfl (hts _ q102) (hts _ q1535) (hts _ q157) rfl (by decide +kernel) ⟨Nat.le_of_ble_eq_true rfl, Nat.le_of_ble_eq_true rfl⟩) (h_preS hGr hr hS _) rfl rfl hl.1 rfl (lv_room (Nat.le_of_ble_eq_true rfl)) dX6_read_47 ⟨(bud hc mm9 hmc hms).1, (bud hc mm9 hmc hms).2⟩) hS (fun uu H locs hw hr hS => ?_)
  obtain rfl : u9 = uu := (congrArg Prod.snd hw).symm
  obtain ⟨fs10, e10, k10, lo10, hF⟩ := pV_s hF
  obtain ⟨h10, eh10⟩ : ∃ z, z = hPut u9 a0 (.inr (5, fs10.set 1 (.ref a7_))) := ⟨_, rfl⟩
  rw [← eh10] at hF
  refine h_put (C := RX6) (T := TX6) (N := 5) hx hb hts in_X6 tyX6 tyX6_ok nmX6 hown hGr hr hS e10 (by decide) rfl 1 (by decide) (hts _ q1438) (fun _ h9 => h9) rfl (tyX6_ok 1 (by decide)) rfl rfl k10 lo10 dX6_read_50 (fun H locs hr hS => ?_)
  rw [← eh10] at hr
  replace hc := cst_put hc eh10
  refine lv_aload_n hx hb dX6_read_53 rfl (lv_at hl 1 rfl) ?_
  obtain ⟨fc11, ec11, hF⟩ := gC_s hF
  rcases bnx_s hF with ⟨r11, u11, e11, hF⟩ | ⟨q11, u11, e11, hF⟩
  rotate_left
  · obtain ⟨mc11, ms11, hmc11, hms11⟩ := up_of (moX6_semicolon D.2 n h10 a0 _ e11)
    have hcx := cst_call hc hmc11 hms11
    have bx11 := bud_r hcx hF hmc hms
    refine h_xthrv rfl (vx_runV (As := []) (rest := []) ⟨hx, hb, hml, hown, hts⟩ (mgX6_semicolon l hl0 D A h10 n a0 _ e11 mc11 ms11 hmc11 hms11) (cwV 0 hts (lw_V q1536 q1538 qs33 q134 q1539) rfl rfl rfl (by decide +kernel) ⟨Nat.le_of_ble_eq_true rfl, Nat.le_of_ble_eq_true rfl⟩) (h_preV hGr hr hS ec11 (by decide) (q := (RX6, TX6, 5)) rfl _) rfl rfl hl.1 rfl (lv_room (Nat.le_of_ble_eq_true rfl)) dX6_read_54 ⟨bx11.1, bx11.2⟩) hS (fun E9 q9 u9 H locs ce9 e1 e2 e3 hr hS h1 h2 h3 => ?_)
    exact h_xpass hGr htb hlocks hF bx11 e1 e2 e3 hr hS h1 h2 h3
  have mm11 : hle u11 out.2 := (show Mo u11 _ from mo_tr hle_rf (ml1 u11 a0 r2)) _ hF
  obtain ⟨mc11, ms11, hmc11, hms11⟩ := up_of (moX6_semicolon D.2 n h10 a0 _ e11)
  replace hc := cst_call hc hmc11 hms11
  refine h_xretv rfl (vx_runV (As := []) (rest := []) ⟨hx, hb, hml, hown, hts⟩ (mgX6_semicolon l hl0 D A h10 n a0 _ e11 mc11 ms11 hmc11 hms11) (cwV 0 hts (lw_V q1536 q1538 qs33 q134 q1539) rfl rfl rfl (by decide +kernel) ⟨Nat.le_of_ble_eq_true rfl, Nat.le_of_ble_eq_true rfl⟩) (h_preV hGr hr hS ec11 (by decide) (q := (RX6, TX6, 5)) rfl _) rfl rfl hl.1 rfl (lv_room (Nat.le_of_ble_eq_true rfl)) dX6_read_54 ⟨(bud hc mm11 hmc hms).1, (bud hc mm11 hmc hms).2⟩) hS (fun H locs hr hS => ?_)
  exact lp1 u11 a0 r2 hF _ _ _ _ hc hr hS ls (lv_sub hl [1, 0] rfl)

def GX6_close (h : Hp) (a0 : Nat) : Option (Int32 × Hp) := gQ h a0 5 4 (fun x1_ => pV h x1_ 1 4 (.int 0) (fun h2 => some (0, h2)))
theorem moX6_close (h : Hp) (a0 : Nat) : Mo h (GX6_close h a0) := by
  unfold GX6_close
  exact mo_gQ (fun x1_ => mo_pV hle_rf (fun h2 m2 => mo_ret m2))
set_option maxHeartbeats 4000000 in
set_option maxRecDepth 100000 in
theorem mgX6_close (l : Launch) (D : HD) (A : Nat → Prop) (h : Hp) (a0 : Nat) (out : Int32 × Hp) (hF : GX6_close h a0 = some out) (mc ms : Nat) (hmc : hCc out.2 = hCc h + mc) (hms : hSl out.2 = hSl h + ms) : Met l yX6_close (ws_ yX6_close cX6_close 1 none) ({ frames := 0, cells := mc, slots := ms, locals := 0 }) (va_Pc [.ref a0] (hW D A h)) (va_Qv (fun u => (0, u) = out) (hW D A) A) mc ms A := by
  refine Met.ofW (cc := cX6_close) (maxL := 1) (ret := none) (by decide +kernel) rfl ?_
  intro p e s m args below meth c s₁ B hml hv
  obtain ⟨rfl, hr, hGr⟩ := hv
  have hx := B.exec
  have hb := B.bytes
  have hret := B.returns
  have hts := atoms_spec (ws := (ws_ yX6_close cX6_close 1 none)) B.pre
  have hts : ∀ w ∈ lw_all, w.before _ s = true := fun w h => hts w (List.mem_cons_of_mem _ h)
  have hown : s.vm.findClass RX6 = some m.cls := findClass_of_methodNamed B.named
  have hlocks := B.notSynchronized
  have hS : va_S A s.heap s.heap [] := va_S.rf
  have hc : cst h 0 0 h := cst_0
  have hl := lv_entry ([.ref a0]) (n := 1) (Nat.le_of_ble_eq_true rfl)
  rw [lg_entry_eq]
  generalize (lg_sl ([.ref a0]) ++ List.replicate (1 - (lg_sl ([.ref a0])).length) Slot.unset).toArray = ls at hl ⊢
  have hl : lv_has ls 1 [(0, .ref a0)] := hl
  unfold GX6_close at hF
  refine lv_aload_n hx hb dX6_close_0 rfl (lv_at hl 0 rfl) ?_
  obtain ⟨fs1, x1_, e1, f1, hF⟩ := gQ_s hF
  refine h_get (C := RX6) (T := TX6) (N := 5) hx hb hts in_X6 hown hGr hr e1 (by decide) rfl 4 (by decide) (hts _ q1441) (fun _ h9 => h9) f1 dX6_close_1 ?_
  refine lv_iconst (v := 0) hx hb dX6_close_4 (by decide) ?_
  obtain ⟨fs2, e2, k2, lo2, hF⟩ := pV_s hF
  obtain ⟨h2, eh2⟩ : ∃ z, z = hPut h x1_ (.inr (1, fs2.set 4 (.int 0))) := ⟨_, rfl⟩
  rw [← eh2] at hF
  refine h_putN (C := RX1) (T := TX1) (N := 7) hx hb hts in_X1 tyX1 tyX1_ok nmX1 hown hGr hr hS e2 (by decide) rfl 4 (by decide) (va_Nw.use rfl (hGr.nw q638 rfl)) (fun _ h9 => h9) rfl (tyX1_ok 4 (by decide)) rfl rfl k2 lo2 dX6_close_5 (fun H locs hr hS => ?_)
  rw [← eh2] at hr
  replace hc := cst_put hc eh2
  have bz := bud_r hc hF hmc hms
  refine W.widen (k := mc) (n := ms) bz.1 bz.2 ?_
  exact W.vret hx hb hret (fun t ht hWm => ⟨⟨h2, rfl, Option.some.inj hF, h_end hGr hr hS ht hWm⟩, hS.F ht⟩) hS.2.2 dX6_close_8
