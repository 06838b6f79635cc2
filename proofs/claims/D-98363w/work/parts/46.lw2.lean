set_option maxRecDepth 100000
theorem nI_in0 {n : Nat} (h : 0 < n) : vp_in 0 n := by
  unfold vp_in
  rintro (h1 | h1)
  · exact absurd h1 (by decide)
  · have : (0 : Int32).toNatClampNeg = 0 := by decide
    omega
def P_X0_bed (BC BS : Nat) (x : Nat) (p0 : Int32) (po : Nat) (g : GT) (ι : S) (Q : Int32 → GT → S → Prop) : Prop := gK g x = 2 ∧ po < 200 + gN g ∧ P_X1_bed BC BS (fun k g' ι' => k = 2 ∧ Q 1 g' ι') x p0 g ι (fun r g' ι' => gK g' po = 109 ∧ 0 < gL g' po ∧ ∀ ι2, ι2 = up2 ι' po 0 r → Q 0 g' ι2)
set_option maxHeartbeats 2000000 in
theorem met_X0_bed (l : Launch) (D : va_G) (dA : Nat → ClassId) (ad : Nat → Nat) (BC BS : Nat) (hlt : l.stackTraces = false) (g : GT) (ι : S) (sz : Nat) {x po : Nat} {p0 : Int32} {Q : Int32 → GT → S → Prop} (hF : P_X0_bed BC BS x p0 po g ι Q) : CZi l yX0_bed cX0_bed 4 .int [(0, 9, 12, 13)] ({ frames := 183, cells := BC, slots := BS, locals := 4947 } : Room) D dA ad g ι sz [pX x, iX p0, pX po] Q (fun _ _ _ => False) BC BS := by
  refine zg_enter [pX x, iX p0, pX po] (Qc := fun A => HPi D dA ad g A Q) (XC := fun A => XVC D dA ad g A (fun _ _ _ => False)) (by decide +kernel) (Nat.le_of_ble_eq_true rfl) ?_
  intro p e s m args below meth c A ls X hP hl htab
  obtain ⟨hx, hpo, hF⟩ := hF
  refine ph_aload_n (n := 2) X hl dX0_bed_0 rfl rfl ?_
  refine lv_iconst (v := 0) X.1 X.2.1 dX0_bed_1 (by decide) ?_
  refine ph_aload_n (n := 0) X hl dX0_bed_2 rfl rfl ?_
  refine ph_iload_n (n := 1) X hl dX0_bed_3 rfl rfl ?_
  have hl2 : LH ad ls 4 [] := lh_sub hl [] rfl
  refine hl_tryZ 1 [iX p0] [iX 0, pX po] X hP hx (met_X1_bed l D dA ad _ _ hlt _ _ _ hF) (vx_cwVW 1 X.2.2.2.2.1 (lw_VW q1156 q1157 q1158 q98 q1159) rfl rfl rfl (by decide +kernel) ⟨Nat.le_of_ble_eq_true rfl, Nat.le_of_ble_eq_true rfl⟩) rfl HA.rf hl2 ltln (ltsi (ltsp hpo ltsn)) (k8 := 2) (csi (csr (cs0 (k := 0)))) (by decide) ⟨Nat.le_of_eq (Nat.zero_add _), Nat.le_of_eq (Nat.zero_add _)⟩ dX0_bed_4 rfl (fun k ad9 g9 ι9 H locs q9 ce hx9 X hP hag _ hce hv9 hcl => ?_) (fun r ad9 g9 ι9 H locs hF X hP hag _ hl => ?_)
  · obtain ⟨rfl, hx9⟩ := hx9
    refine hl_catchI (x0 := ⟨0, 9, 12, 13⟩) X htab (by decide) (by decide) q1155 hce hv9 hcl ?_
    refine hl_ast3 X hl dX0_bed_12 rfl (by decide) (fun ls => ?_)
    refine lv_iconst (v := 1) X.1 X.2.1 dX0_bed_13 (by decide) ?_
    exact hz_iret X hP hag hx9 (Nat.le_of_eq (Nat.zero_add _)) (Nat.le_of_eq (Nat.zero_add _)) dX0_bed_14
  · show W p l e ({ frames := 183, cells := BC, slots := BS, locals := 4947 } : Room) s m args below meth c H locs (0 + BC) (0 + BS) _ (F0 m 7 ls [.int r, .int 0, rv ad9 po])
    obtain ⟨hk, hlen, hF⟩ := hF
    refine lv_i2l X.1 X.2.1 dX0_bed_7 rfl ?_
    refine hl_last X hP hk (k := 0) (nI_in0 hlen) (by decide) dX0_bed_8 hF (fun H locs ι2 hP hF => ?_)
    refine lv_goto (tgt := 15) X.1 X.2.1 dX0_bed_9 (by decide) ?_
    refine lv_iconst (v := 0) X.1 X.2.1 dX0_bed_15 (by decide) ?_
    exact hz_iret X hP hag hF (Nat.le_of_eq (Nat.zero_add _)) (Nat.le_of_eq (Nat.zero_add _)) dX0_bed_16
def P_X0_count (x : Nat) (p0 : Int32) (po : Nat) (g : GT) (ι : S) (Q : Int32 → GT → S → Prop) : Prop := gK g x = 2 ∧ gK g po = 109 ∧ 0 < gL g po ∧ P_X1_count g (fun k ι' => k = 1 ∧ Q 1 g ι') x p0 ι (fun r ι' => ∀ ι2, ι2 = up2 ι' po 0 r → Q 0 g ι2)
set_option maxHeartbeats 2000000 in
theorem met_X0_count (l : Launch) (D : va_G) (dA : Nat → ClassId) (ad : Nat → Nat) (hlt : l.stackTraces = false) (g : GT) (ι : S) (sz : Nat) {x po : Nat} {p0 : Int32} {Q : Int32 → GT → S → Prop} (hF : P_X0_count x p0 po g ι Q) : CZi l yX0_count cX0_count 4 .int [(0, 9, 12, 18)] ({ frames := 8, cells := 1, slots := 6, locals := 152 } : Room) D dA ad g ι sz [pX x, iX p0, pX po] Q (fun _ _ _ => False) 1 6 := by
  refine zg_enter [pX x, iX p0, pX po] (Qc := fun A => HPi D dA ad g A Q) (XC := fun A => XVC D dA ad g A (fun _ _ _ => False)) (by decide +kernel) (Nat.le_of_ble_eq_true rfl) ?_
  intro p e s m args below meth c A ls X hP hl htab
  obtain ⟨hx, hk, hlen, hF⟩ := hF
  refine ph_aload_n (n := 2) X hl dX0_count_0 rfl rfl ?_
  refine lv_iconst (v := 0) X.1 X.2.1 dX0_count_1 (by decide) ?_
  refine ph_aload_n (n := 0) X hl dX0_count_2 rfl rfl ?_
  refine ph_iload_n (n := 1) X hl dX0_count_3 rfl rfl ?_
  refine hl_tryE 1 [iX p0] X hP hx (met_X1_count l D dA ad g hlt _ _ hF) (cwV 1 X.2.2.2.2.1 (lw_V q1552 q1553 q1554 q98 q1555) rfl rfl rfl (by decide +kernel) ⟨Nat.le_of_ble_eq_true rfl, Nat.le_of_ble_eq_true rfl⟩) rfl hl (k8 := 2) (csi (csr (cs0 (k := 0)))) (by decide) ⟨Nat.le_of_eq (Nat.zero_add _), Nat.le_of_eq (Nat.zero_add _)⟩ dX0_count_4 rfl (fun k ι9 H locs q9 ce hx9 hP hce hv9 hcl => ?_) (fun r ι9 H locs hF hP => ?_)
  · obtain ⟨rfl, hx9⟩ := hx9
    refine hl_catchN (x0 := ⟨0, 9, 12, 18⟩) X htab (by decide) (by decide) q1551 hce hv9 hcl ?_
    refine hl_ast3 X hl dX0_count_12 rfl (by decide) (fun ls => ?_)
    refine lv_iconst (v := 1) X.1 X.2.1 dX0_count_13 (by decide) ?_
    exact hz_iret X hP HA.rf hx9 (Nat.le_of_eq (Nat.zero_add _)) (Nat.le_of_eq (Nat.zero_add _)) dX0_count_14
  · show W p l e ({ frames := 8, cells := 1, slots := 6, locals := 152 } : Room) s m args below meth c H locs (0 + 1) (0 + 6) _ (F0 m 7 ls [.int r, .int 0, rv ad po])
    refine lv_i2l X.1 X.2.1 dX0_count_7 rfl ?_
    refine hl_last X hP hk (k := 0) (nI_in0 hlen) (by decide) dX0_count_8 hF (fun H locs ι2 hP hF => ?_)
    refine lv_goto (tgt := 15) X.1 X.2.1 dX0_count_9 (by decide) ?_
    refine lv_iconst (v := 0) X.1 X.2.1 dX0_count_15 (by decide) ?_
    exact hz_iret X hP HA.rf hF (Nat.le_of_eq (Nat.zero_add _)) (Nat.le_of_eq (Nat.zero_add _)) dX0_count_16
def P_X0_sleeper (x : Nat) (p0 : Int32) (p1 : Int32) (po : Nat) (g : GT) (ι : S) (Q : Int32 → GT → S → Prop) : Prop := gK g x = 2 ∧ gK g po = 109 ∧ 0 < gL g po ∧ P_X1_sleeper g (fun k ι' => k = 1 ∧ Q 1 g ι') x p0 p1 ι (fun r ι' => ∀ ι2, ι2 = up2 ι' po 0 r → Q 0 g ι2)
set_option maxHeartbeats 2000000 in
theorem met_X0_sleeper (l : Launch) (D : va_G) (dA : Nat → ClassId) (ad : Nat → Nat) (hlt : l.stackTraces = false) (g : GT) (ι : S) (sz : Nat) {x po : Nat} {p0 : Int32} {p1 : Int32} {Q : Int32 → GT → S → Prop} (hF : P_X0_sleeper x p0 p1 po g ι Q) : CZi l yX0_sleeper cX0_sleeper 5 .int [(0, 10, 13, 18)] ({ frames := 9, cells := 2, slots := 12, locals := 175 } : Room) D dA ad g ι sz [pX x, iX p0, iX p1, pX po] Q (fun _ _ _ => False) 2 12 := by
  refine zg_enter [pX x, iX p0, iX p1, pX po] (Qc := fun A => HPi D dA ad g A Q) (XC := fun A => XVC D dA ad g A (fun _ _ _ => False)) (by decide +kernel) (Nat.le_of_ble_eq_true rfl) ?_
  intro p e s m args below meth c A ls X hP hl htab
  obtain ⟨hx, hk, hlen, hF⟩ := hF
  refine ph_aload_n (n := 3) X hl dX0_sleeper_0 rfl rfl ?_
  refine lv_iconst (v := 0) X.1 X.2.1 dX0_sleeper_1 (by decide) ?_
  refine ph_aload_n (n := 0) X hl dX0_sleeper_2 rfl rfl ?_
  refine ph_iload_n (n := 1) X hl dX0_sleeper_3 rfl rfl ?_
  refine ph_iload_n (n := 2) X hl dX0_sleeper_4 rfl rfl ?_
  refine hl_tryE 1 [iX p0, iX p1] X hP hx (met_X1_sleeper l D dA ad g hlt _ _ hF) (cwV 2 X.2.2.2.2.1 (lw_V q1577 q1578 q1579 q98 q1580) rfl rfl rfl (by decide +kernel) ⟨Nat.le_of_ble_eq_true rfl, Nat.le_of_ble_eq_true rfl⟩) rfl hl (k8 := 2) (csi (csr (cs0 (k := 0)))) (by decide) ⟨Nat.le_of_eq (Nat.zero_add _), Nat.le_of_eq (Nat.zero_add _)⟩ dX0_sleeper_5 rfl (fun k ι9 H locs q9 ce hx9 hP hce hv9 hcl => ?_) (fun r ι9 H locs hF hP => ?_)
  · obtain ⟨rfl, hx9⟩ := hx9
    refine hl_catchN (x0 := ⟨0, 10, 13, 18⟩) X htab (by decide) (by decide) q1551 hce hv9 hcl ?_
    refine hl_ast X hl dX0_sleeper_13 (by decide) (fun ls => ?_)
    refine lv_iconst (v := 1) X.1 X.2.1 dX0_sleeper_15 (by decide) ?_
    exact hz_iret X hP HA.rf hx9 (Nat.le_of_eq (Nat.zero_add _)) (Nat.le_of_eq (Nat.zero_add _)) dX0_sleeper_16
  · show W p l e ({ frames := 9, cells := 2, slots := 12, locals := 175 } : Room) s m args below meth c H locs (0 + 2) (0 + 12) _ (F0 m 8 ls [.int r, .int 0, rv ad po])
    refine lv_i2l X.1 X.2.1 dX0_sleeper_8 rfl ?_
    refine hl_last X hP hk (k := 0) (nI_in0 hlen) (by decide) dX0_sleeper_9 hF (fun H locs ι2 hP hF => ?_)
    refine lv_goto (tgt := 17) X.1 X.2.1 dX0_sleeper_10 (by decide) ?_
    refine lv_iconst (v := 0) X.1 X.2.1 dX0_sleeper_17 (by decide) ?_
    exact hz_iret X hP HA.rf hF (Nat.le_of_eq (Nat.zero_add _)) (Nat.le_of_eq (Nat.zero_add _)) dX0_sleeper_18
def P_X0_word (BC BS : Nat) (x : Nat) (p0 : Int32) (p1 : Int32) (po : Nat) (g : GT) (ι : S) (Q : Int32 → GT → S → Prop) : Prop := gK g x = 2 ∧ po < 200 + gN g ∧ P_X1_word BC BS (fun k v g' ι' => k = 1 ∧ Q 1 g' ι') x p0 p1 g ι (fun r g' ι' => gK g' po = 109 ∧ 0 < gL g' po ∧ ∀ ι2, ι2 = up2 ι' po 0 r → Q 0 g' ι2)
set_option maxHeartbeats 2000000 in
theorem met_X0_word (l : Launch) (D : va_G) (dA : Nat → ClassId) (ad : Nat → Nat) (BC BS : Nat) (hlt : l.stackTraces = false) (g : GT) (ι : S) (sz : Nat) {x po : Nat} {p0 : Int32} {p1 : Int32} {Q : Int32 → GT → S → Prop} (hF : P_X0_word BC BS x p0 p1 po g ι Q) : CZi l yX0_word cX0_word 5 .int [(0, 10, 13, 18)] ({ frames := 9, cells := BC, slots := BS, locals := 246 } : Room) D dA ad g ι sz [pX x, iX p0, iX p1, pX po] Q (fun _ _ _ => False) BC BS := by
  refine zg_enter [pX x, iX p0, iX p1, pX po] (Qc := fun A => HPi D dA ad g A Q) (XC := fun A => XVC D dA ad g A (fun _ _ _ => False)) (by decide +kernel) (Nat.le_of_ble_eq_true rfl) ?_
  intro p e s m args below meth c A ls X hP hl htab
  obtain ⟨hx, hpo, hF⟩ := hF
  refine ph_aload_n (n := 3) X hl dX0_word_0 rfl rfl ?_
  refine lv_iconst (v := 0) X.1 X.2.1 dX0_word_1 (by decide) ?_
  refine ph_aload_n (n := 0) X hl dX0_word_2 rfl rfl ?_
  refine ph_iload_n (n := 1) X hl dX0_word_3 rfl rfl ?_
  refine ph_iload_n (n := 2) X hl dX0_word_4 rfl rfl ?_
  have hl2 : LH ad ls 5 [] := lh_sub hl [] rfl
  refine hl_tryY 1 [iX p0, iX p1] [iX 0, pX po] X hP hx (met_X1_word l D dA ad _ _ hlt _ _ _ hF) (cwV 2 X.2.2.2.2.1 (lw_V q1604 q1605 q1606 q98 q1607) rfl rfl rfl (by decide +kernel) ⟨Nat.le_of_ble_eq_true rfl, Nat.le_of_ble_eq_true rfl⟩) rfl HA.rf hl2 ltln (ltsi (ltsp hpo ltsn)) (k8 := 2) (csi (csr (cs0 (k := 0)))) (by decide) ⟨Nat.le_of_eq (Nat.zero_add _), Nat.le_of_eq (Nat.zero_add _)⟩ dX0_word_5 rfl (fun k v9 ad9 g9 ι9 H locs q9 ce hx9 X hP hag _ hce hv9 hcl => ?_) (fun r ad9 g9 ι9 H locs hF X hP hag _ hl => ?_)
  · obtain ⟨rfl, hx9⟩ := hx9
    refine hl_catchN (x0 := ⟨0, 10, 13, 18⟩) X htab (by decide) (by decide) q1551 hce hv9 hcl ?_
    refine hl_ast X hl dX0_word_13 (by decide) (fun ls => ?_)
    refine lv_iconst (v := 1) X.1 X.2.1 dX0_word_15 (by decide) ?_
    exact hz_iret X hP hag hx9 (Nat.le_of_eq (Nat.zero_add _)) (Nat.le_of_eq (Nat.zero_add _)) dX0_word_16
  · show W p l e ({ frames := 9, cells := BC, slots := BS, locals := 246 } : Room) s m args below meth c H locs (0 + BC) (0 + BS) _ (F0 m 8 ls [.int r, .int 0, rv ad9 po])
    obtain ⟨hk, hlen, hF⟩ := hF
    refine lv_i2l X.1 X.2.1 dX0_word_8 rfl ?_
    refine hl_last X hP hk (k := 0) (nI_in0 hlen) (by decide) dX0_word_9 hF (fun H locs ι2 hP hF => ?_)
    refine lv_goto (tgt := 17) X.1 X.2.1 dX0_word_10 (by decide) ?_
    refine lv_iconst (v := 0) X.1 X.2.1 dX0_word_17 (by decide) ?_
    exact hz_iret X hP hag hF (Nat.le_of_eq (Nat.zero_add _)) (Nat.le_of_eq (Nat.zero_add _)) dX0_word_18
def P_X0_out (BC BS : Nat) (x : Nat) (p0 : Int32) (p1 : Int32) (po : Nat) (g : GT) (ι : S) (Q : Int32 → GT → S → Prop) : Prop := gK g x = 2 ∧ po < 200 + gN g ∧ P_X1_out BC BS (fun k v g' ι' => k = 1 ∧ Q 1 g' ι') x p0 p1 g ι (fun r g' ι' => gK g' po = 109 ∧ 0 < gL g' po ∧ ∀ ι2, ι2 = up2 ι' po 0 r → Q 0 g' ι2)
set_option maxHeartbeats 2000000 in
theorem met_X0_out (l : Launch) (D : va_G) (dA : Nat → ClassId) (ad : Nat → Nat) (BC BS : Nat) (hlt : l.stackTraces = false) (g : GT) (ι : S) (sz : Nat) {x po : Nat} {p0 : Int32} {p1 : Int32} {Q : Int32 → GT → S → Prop} (hF : P_X0_out BC BS x p0 p1 po g ι Q) : CZi l yX0_out cX0_out 5 .int [(0, 10, 13, 18)] ({ frames := 9, cells := BC, slots := BS, locals := 246 } : Room) D dA ad g ι sz [pX x, iX p0, iX p1, pX po] Q (fun _ _ _ => False) BC BS := by
  refine zg_enter [pX x, iX p0, iX p1, pX po] (Qc := fun A => HPi D dA ad g A Q) (XC := fun A => XVC D dA ad g A (fun _ _ _ => False)) (by decide +kernel) (Nat.le_of_ble_eq_true rfl) ?_
  intro p e s m args below meth c A ls X hP hl htab
  obtain ⟨hx, hpo, hF⟩ := hF
  refine ph_aload_n (n := 3) X hl dX0_out_0 rfl rfl ?_
  refine lv_iconst (v := 0) X.1 X.2.1 dX0_out_1 (by decide) ?_
  refine ph_aload_n (n := 0) X hl dX0_out_2 rfl rfl ?_
  refine ph_iload_n (n := 1) X hl dX0_out_3 rfl rfl ?_
  refine ph_iload_n (n := 2) X hl dX0_out_4 rfl rfl ?_
  have hl2 : LH ad ls 5 [] := lh_sub hl [] rfl
  refine hl_tryY 1 [iX p0, iX p1] [iX 0, pX po] X hP hx (met_X1_out l D dA ad _ _ hlt _ _ _ hF) (cwV 2 X.2.2.2.2.1 (lw_V q1612 q1613 q1614 q98 q1615) rfl rfl rfl (by decide +kernel) ⟨Nat.le_of_ble_eq_true rfl, Nat.le_of_ble_eq_true rfl⟩) rfl HA.rf hl2 ltln (ltsi (ltsp hpo ltsn)) (k8 := 2) (csi (csr (cs0 (k := 0)))) (by decide) ⟨Nat.le_of_eq (Nat.zero_add _), Nat.le_of_eq (Nat.zero_add _)⟩ dX0_out_5 rfl (fun k v9 ad9 g9 ι9 H locs q9 ce hx9 X hP hag _ hce hv9 hcl => ?_) (fun r ad9 g9 ι9 H locs hF X hP hag _ hl => ?_)
  · obtain ⟨rfl, hx9⟩ := hx9
    refine hl_catchN (x0 := ⟨0, 10, 13, 18⟩) X htab (by decide) (by decide) q1551 hce hv9 hcl ?_
    refine hl_ast X hl dX0_out_13 (by decide) (fun ls => ?_)
    refine lv_iconst (v := 1) X.1 X.2.1 dX0_out_15 (by decide) ?_
    exact hz_iret X hP hag hx9 (Nat.le_of_eq (Nat.zero_add _)) (Nat.le_of_eq (Nat.zero_add _)) dX0_out_16
  · show W p l e ({ frames := 9, cells := BC, slots := BS, locals := 246 } : Room) s m args below meth c H locs (0 + BC) (0 + BS) _ (F0 m 8 ls [.int r, .int 0, rv ad9 po])
    obtain ⟨hk, hlen, hF⟩ := hF
    refine lv_i2l X.1 X.2.1 dX0_out_8 rfl ?_
    refine hl_last X hP hk (k := 0) (nI_in0 hlen) (by decide) dX0_out_9 hF (fun H locs ι2 hP hF => ?_)
    refine lv_goto (tgt := 17) X.1 X.2.1 dX0_out_10 (by decide) ?_
    refine lv_iconst (v := 0) X.1 X.2.1 dX0_out_17 (by decide) ?_
    exact hz_iret X hP hag hF (Nat.le_of_eq (Nat.zero_add _)) (Nat.le_of_eq (Nat.zero_add _)) dX0_out_18
def P_X0_night (x : Nat) (p0 : Int32) (po : Nat) (g : GT) (ι : S) (Q : Int32 → GT → S → Prop) : Prop := gK g x = 2 ∧ gK g po = 109 ∧ 0 < gL g po ∧ P_X1_night g (fun k ι' => k = 1 ∧ Q 1 g ι') x p0 ι (fun r ι' => ∀ ι2, ι2 = up2 ι' po 0 r → Q 0 g ι2)
set_option maxHeartbeats 2000000 in
theorem met_X0_night (l : Launch) (D : va_G) (dA : Nat → ClassId) (ad : Nat → Nat) (hlt : l.stackTraces = false) (g : GT) (ι : S) (sz : Nat) {x po : Nat} {p0 : Int32} {Q : Int32 → GT → S → Prop} (hF : P_X0_night x p0 po g ι Q) : CZi l yX0_night cX0_night 4 .int [(0, 9, 12, 18)] ({ frames := 2110, cells := 1, slots := 6, locals := 45035 } : Room) D dA ad g ι sz [pX x, iX p0, pX po] Q (fun _ _ _ => False) 1 6 := by
  refine zg_enter [pX x, iX p0, pX po] (Qc := fun A => HPi D dA ad g A Q) (XC := fun A => XVC D dA ad g A (fun _ _ _ => False)) (by decide +kernel) (Nat.le_of_ble_eq_true rfl) ?_
  intro p e s m args below meth c A ls X hP hl htab
  obtain ⟨hx, hk, hlen, hF⟩ := hF
  refine ph_aload_n (n := 2) X hl dX0_night_0 rfl rfl ?_
  refine lv_iconst (v := 0) X.1 X.2.1 dX0_night_1 (by decide) ?_
  refine ph_aload_n (n := 0) X hl dX0_night_2 rfl rfl ?_
  refine ph_iload_n (n := 1) X hl dX0_night_3 rfl rfl ?_
  refine hl_tryE 1 [iX p0] X hP hx (met_X1_night l D dA ad g hlt _ _ hF) (cwV 1 X.2.2.2.2.1 (lw_V q1619 q1620 q1621 q98 q1622) rfl rfl rfl (by decide +kernel) ⟨Nat.le_of_ble_eq_true rfl, Nat.le_of_ble_eq_true rfl⟩) rfl hl (k8 := 2) (csi (csr (cs0 (k := 0)))) (by decide) ⟨Nat.le_of_eq (Nat.zero_add _), Nat.le_of_eq (Nat.zero_add _)⟩ dX0_night_4 rfl (fun k ι9 H locs q9 ce hx9 hP hce hv9 hcl => ?_) (fun r ι9 H locs hF hP => ?_)
  · obtain ⟨rfl, hx9⟩ := hx9
    refine hl_catchN (x0 := ⟨0, 9, 12, 18⟩) X htab (by decide) (by decide) q1551 hce hv9 hcl ?_
    refine hl_ast3 X hl dX0_night_12 rfl (by decide) (fun ls => ?_)
    refine lv_iconst (v := 1) X.1 X.2.1 dX0_night_13 (by decide) ?_
    exact hz_iret X hP HA.rf hx9 (Nat.le_of_eq (Nat.zero_add _)) (Nat.le_of_eq (Nat.zero_add _)) dX0_night_14
  · show W p l e ({ frames := 2110, cells := 1, slots := 6, locals := 45035 } : Room) s m args below meth c H locs (0 + 1) (0 + 6) _ (F0 m 7 ls [.int r, .int 0, rv ad po])
    refine lv_i2l X.1 X.2.1 dX0_night_7 rfl ?_
    refine hl_last X hP hk (k := 0) (nI_in0 hlen) (by decide) dX0_night_8 hF (fun H locs ι2 hP hF => ?_)
    refine lv_goto (tgt := 15) X.1 X.2.1 dX0_night_9 (by decide) ?_
    refine lv_iconst (v := 0) X.1 X.2.1 dX0_night_15 (by decide) ?_
    exact hz_iret X hP HA.rf hF (Nat.le_of_eq (Nat.zero_add _)) (Nat.le_of_eq (Nat.zero_add _)) dX0_night_16
def P_X0_woken (x : Nat) (p0 : Int32) (p1 : Int32) (po : Nat) (g : GT) (ι : S) (Q : Int32 → GT → S → Prop) : Prop := gK g x = 2 ∧ gK g po = 109 ∧ 0 < gL g po ∧ P_X1_woken g (fun k ι' => k = 1 ∧ Q 1 g ι') x p0 p1 ι (fun r ι' => ∀ ι2, ι2 = up2 ι' po 0 r → Q 0 g ι2)
set_option maxHeartbeats 2000000 in
theorem met_X0_woken (l : Launch) (D : va_G) (dA : Nat → ClassId) (ad : Nat → Nat) (hlt : l.stackTraces = false) (g : GT) (ι : S) (sz : Nat) {x po : Nat} {p0 : Int32} {p1 : Int32} {Q : Int32 → GT → S → Prop} (hF : P_X0_woken x p0 p1 po g ι Q) : CZi l yX0_woken cX0_woken 5 .int [(0, 10, 13, 18)] ({ frames := 2110, cells := 2, slots := 12, locals := 45034 } : Room) D dA ad g ι sz [pX x, iX p0, iX p1, pX po] Q (fun _ _ _ => False) 2 12 := by
  refine zg_enter [pX x, iX p0, iX p1, pX po] (Qc := fun A => HPi D dA ad g A Q) (XC := fun A => XVC D dA ad g A (fun _ _ _ => False)) (by decide +kernel) (Nat.le_of_ble_eq_true rfl) ?_
  intro p e s m args below meth c A ls X hP hl htab
  obtain ⟨hx, hk, hlen, hF⟩ := hF
  refine ph_aload_n (n := 3) X hl dX0_woken_0 rfl rfl ?_
  refine lv_iconst (v := 0) X.1 X.2.1 dX0_woken_1 (by decide) ?_
  refine ph_aload_n (n := 0) X hl dX0_woken_2 rfl rfl ?_
  refine ph_iload_n (n := 1) X hl dX0_woken_3 rfl rfl ?_
  refine ph_iload_n (n := 2) X hl dX0_woken_4 rfl rfl ?_
  refine hl_tryE 1 [iX p0, iX p1] X hP hx (met_X1_woken l D dA ad g hlt _ _ hF) (cwV 2 X.2.2.2.2.1 (lw_V q1626 q1627 q1628 q98 q1629) rfl rfl rfl (by decide +kernel) ⟨Nat.le_of_ble_eq_true rfl, Nat.le_of_ble_eq_true rfl⟩) rfl hl (k8 := 2) (csi (csr (cs0 (k := 0)))) (by decide) ⟨Nat.le_of_eq (Nat.zero_add _), Nat.le_of_eq (Nat.zero_add _)⟩ dX0_woken_5 rfl (fun k ι9 H locs q9 ce hx9 hP hce hv9 hcl => ?_) (fun r ι9 H locs hF hP => ?_)
  · obtain ⟨rfl, hx9⟩ := hx9
    refine hl_catchN (x0 := ⟨0, 10, 13, 18⟩) X htab (by decide) (by decide) q1551 hce hv9 hcl ?_
    refine hl_ast X hl dX0_woken_13 (by decide) (fun ls => ?_)
    refine lv_iconst (v := 1) X.1 X.2.1 dX0_woken_15 (by decide) ?_
    exact hz_iret X hP HA.rf hx9 (Nat.le_of_eq (Nat.zero_add _)) (Nat.le_of_eq (Nat.zero_add _)) dX0_woken_16
  · show W p l e ({ frames := 2110, cells := 2, slots := 12, locals := 45034 } : Room) s m args below meth c H locs (0 + 2) (0 + 12) _ (F0 m 8 ls [.int r, .int 0, rv ad po])
    refine lv_i2l X.1 X.2.1 dX0_woken_8 rfl ?_
    refine hl_last X hP hk (k := 0) (nI_in0 hlen) (by decide) dX0_woken_9 hF (fun H locs ι2 hP hF => ?_)
    refine lv_goto (tgt := 17) X.1 X.2.1 dX0_woken_10 (by decide) ?_
    refine lv_iconst (v := 0) X.1 X.2.1 dX0_woken_17 (by decide) ?_
    exact hz_iret X hP HA.rf hF (Nat.le_of_eq (Nat.zero_add _)) (Nat.le_of_eq (Nat.zero_add _)) dX0_woken_18
def P_X0_lies (x : Nat) (p0 : Int32) (p1 : Int32) (p2 : Int32) (po : Nat) (g : GT) (ι : S) (Q : Int32 → GT → S → Prop) : Prop := gK g x = 2 ∧ gK g po = 109 ∧ 0 < gL g po ∧ P_X1_lies g (fun k ι' => (k = 1 ∧ Q 1 g ι') ∨ (k = 2 ∧ Q 2 g ι')) x p0 p1 p2 ι (fun r ι' => ∀ ι2, ι2 = up2 ι' po 0 r → Q 0 g ι2)
set_option maxHeartbeats 2000000 in
theorem met_X0_lies (l : Launch) (D : va_G) (dA : Nat → ClassId) (ad : Nat → Nat) (hlt : l.stackTraces = false) (g : GT) (ι : S) (sz : Nat) {x po : Nat} {p0 : Int32} {p1 : Int32} {p2 : Int32} {Q : Int32 → GT → S → Prop} (hF : P_X0_lies x p0 p1 p2 po g ι Q) : CZi l yX0_lies cX0_lies 6 .int [(0, 12, 15, 18), (0, 12, 19, 13)] ({ frames := 2109, cells := 3, slots := 18, locals := 45015 } : Room) D dA ad g ι sz [pX x, iX p0, iX p1, iX p2, pX po] Q (fun _ _ _ => False) 3 18 := by
  refine zg_enter [pX x, iX p0, iX p1, iX p2, pX po] (Qc := fun A => HPi D dA ad g A Q) (XC := fun A => XVC D dA ad g A (fun _ _ _ => False)) (by decide +kernel) (Nat.le_of_ble_eq_true rfl) ?_
  intro p e s m args below meth c A ls X hP hl htab
  obtain ⟨hx, hk, hlen, hF⟩ := hF
  refine ph_aload (n := 4) X hl dX0_lies_0 rfl ?_
  refine lv_iconst (v := 0) X.1 X.2.1 dX0_lies_2 (by decide) ?_
  refine ph_aload_n (n := 0) X hl dX0_lies_3 rfl rfl ?_
  refine ph_iload_n (n := 1) X hl dX0_lies_4 rfl rfl ?_
  refine ph_iload_n (n := 2) X hl dX0_lies_5 rfl rfl ?_
  refine ph_iload_n (n := 3) X hl dX0_lies_6 rfl rfl ?_
  refine hl_tryE 1 [iX p0, iX p1, iX p2] X hP hx (met_X1_lies l D dA ad g hlt _ _ hF) (cwV 3 X.2.2.2.2.1 (lw_V q1633 q1634 q1635 q98 q1636) rfl rfl rfl (by decide +kernel) ⟨Nat.le_of_ble_eq_true rfl, Nat.le_of_ble_eq_true rfl⟩) rfl hl (k8 := 2) (csi (csr (cs0 (k := 0)))) (by decide) ⟨Nat.le_of_eq (Nat.zero_add _), Nat.le_of_eq (Nat.zero_add _)⟩ dX0_lies_7 rfl (fun k ι9 H locs q9 ce hx9 hP hce hv9 hcl => ?_) (fun r ι9 H locs hF hP => ?_)
  · rcases hx9 with ⟨rfl, hx9⟩ | ⟨rfl, hx9⟩
    · refine hl_catchN (x0 := ⟨0, 12, 15, 18⟩) X htab (by decide) (by decide) q1551 hce hv9 hcl ?_
      refine hl_ast X hl dX0_lies_15 (by decide) (fun ls => ?_)
      refine lv_iconst (v := 1) X.1 X.2.1 dX0_lies_17 (by decide) ?_
      exact hz_iret X hP HA.rf hx9 (Nat.le_of_eq (Nat.zero_add _)) (Nat.le_of_eq (Nat.zero_add _)) dX0_lies_18
    · refine hl_catchI2 (x0 := ⟨0, 12, 15, 18⟩) (x1 := ⟨0, 12, 19, 13⟩) X htab (by decide) q1551 (by decide) (by decide) q1155 hce hv9 hcl ?_
      refine hl_ast X hl dX0_lies_19 (by decide) (fun ls => ?_)
      refine lv_iconst (v := 2) X.1 X.2.1 dX0_lies_21 (by decide) ?_
      exact hz_iret X hP HA.rf hx9 (Nat.le_of_eq (Nat.zero_add _)) (Nat.le_of_eq (Nat.zero_add _)) dX0_lies_22
  · show W p l e ({ frames := 2109, cells := 3, slots := 18, locals := 45015 } : Room) s m args below meth c H locs (0 + 3) (0 + 18) _ (F0 m 10 ls [.int r, .int 0, rv ad po])
    refine lv_i2l X.1 X.2.1 dX0_lies_10 rfl ?_
    refine hl_last X hP hk (k := 0) (nI_in0 hlen) (by decide) dX0_lies_11 hF (fun H locs ι2 hP hF => ?_)
    refine lv_goto (tgt := 23) X.1 X.2.1 dX0_lies_12 (by decide) ?_
    refine lv_iconst (v := 0) X.1 X.2.1 dX0_lies_23 (by decide) ?_
    exact hz_iret X hP HA.rf hF (Nat.le_of_eq (Nat.zero_add _)) (Nat.le_of_eq (Nat.zero_add _)) dX0_lies_24
def P_X0_turn (x : Nat) (p0 : Int32) (p1 : Int32) (po : Nat) (g : GT) (ι : S) (Q : Int32 → GT → S → Prop) : Prop := gK g x = 2 ∧ gK g po = 109 ∧ 0 < gL g po ∧ P_X1_turn g (fun k ι' => k = 1 ∧ Q 1 g ι') x p0 p1 ι (fun r ι' => ∀ ι2, ι2 = up2 ι' po 0 r → Q 0 g ι2)
set_option maxHeartbeats 2000000 in
theorem met_X0_turn (l : Launch) (D : va_G) (dA : Nat → ClassId) (ad : Nat → Nat) (hlt : l.stackTraces = false) (g : GT) (ι : S) (sz : Nat) {x po : Nat} {p0 : Int32} {p1 : Int32} {Q : Int32 → GT → S → Prop} (hF : P_X0_turn x p0 p1 po g ι Q) : CZi l yX0_turn cX0_turn 5 .int [(0, 10, 13, 18)] ({ frames := 2110, cells := 2, slots := 12, locals := 45034 } : Room) D dA ad g ι sz [pX x, iX p0, iX p1, pX po] Q (fun _ _ _ => False) 2 12 := by
  refine zg_enter [pX x, iX p0, iX p1, pX po] (Qc := fun A => HPi D dA ad g A Q) (XC := fun A => XVC D dA ad g A (fun _ _ _ => False)) (by decide +kernel) (Nat.le_of_ble_eq_true rfl) ?_
  intro p e s m args below meth c A ls X hP hl htab
  obtain ⟨hx, hk, hlen, hF⟩ := hF
  refine ph_aload_n (n := 3) X hl dX0_turn_0 rfl rfl ?_
  refine lv_iconst (v := 0) X.1 X.2.1 dX0_turn_1 (by decide) ?_
  refine ph_aload_n (n := 0) X hl dX0_turn_2 rfl rfl ?_
  refine ph_iload_n (n := 1) X hl dX0_turn_3 rfl rfl ?_
  refine ph_iload_n (n := 2) X hl dX0_turn_4 rfl rfl ?_
  refine hl_tryE 1 [iX p0, iX p1] X hP hx (met_X1_turn l D dA ad g hlt _ _ hF) (cwV 2 X.2.2.2.2.1 (lw_V q1642 q1643 q1644 q98 q1645) rfl rfl rfl (by decide +kernel) ⟨Nat.le_of_ble_eq_true rfl, Nat.le_of_ble_eq_true rfl⟩) rfl hl (k8 := 2) (csi (csr (cs0 (k := 0)))) (by decide) ⟨Nat.le_of_eq (Nat.zero_add _), Nat.le_of_eq (Nat.zero_add _)⟩ dX0_turn_5 rfl (fun k ι9 H locs q9 ce hx9 hP hce hv9 hcl => ?_) (fun r ι9 H locs hF hP => ?_)
  · obtain ⟨rfl, hx9⟩ := hx9
    refine hl_catchN (x0 := ⟨0, 10, 13, 18⟩) X htab (by decide) (by decide) q1551 hce hv9 hcl ?_
    refine hl_ast X hl dX0_turn_13 (by decide) (fun ls => ?_)
    refine lv_iconst (v := 1) X.1 X.2.1 dX0_turn_15 (by decide) ?_
    exact hz_iret X hP HA.rf hx9 (Nat.le_of_eq (Nat.zero_add _)) (Nat.le_of_eq (Nat.zero_add _)) dX0_turn_16
  · show W p l e ({ frames := 2110, cells := 2, slots := 12, locals := 45034 } : Room) s m args below meth c H locs (0 + 2) (0 + 12) _ (F0 m 8 ls [.int r, .int 0, rv ad po])
    refine lv_i2l X.1 X.2.1 dX0_turn_8 rfl ?_
    refine hl_last X hP hk (k := 0) (nI_in0 hlen) (by decide) dX0_turn_9 hF (fun H locs ι2 hP hF => ?_)
    refine lv_goto (tgt := 17) X.1 X.2.1 dX0_turn_10 (by decide) ?_
    refine lv_iconst (v := 0) X.1 X.2.1 dX0_turn_17 (by decide) ?_
    exact hz_iret X hP HA.rf hF (Nat.le_of_eq (Nat.zero_add _)) (Nat.le_of_eq (Nat.zero_add _)) dX0_turn_18
def P_X0_kept (x : Nat) (p0 : Int32) (po : Nat) (g : GT) (ι : S) (Q : Int32 → GT → S → Prop) : Prop := gK g x = 2 ∧ gK g po = 109 ∧ 0 < gL g po ∧ P_X1_kept g (fun k ι' => k = 1 ∧ Q 1 g ι') x p0 ι (fun r ι' => ∀ ι2, ι2 = up2 ι' po 0 r → Q 0 g ι2)
set_option maxHeartbeats 2000000 in
theorem met_X0_kept (l : Launch) (D : va_G) (dA : Nat → ClassId) (ad : Nat → Nat) (hlt : l.stackTraces = false) (g : GT) (ι : S) (sz : Nat) {x po : Nat} {p0 : Int32} {Q : Int32 → GT → S → Prop} (hF : P_X0_kept x p0 po g ι Q) : CZi l yX0_kept cX0_kept 4 .int [(0, 9, 12, 18)] ({ frames := 8, cells := 1, slots := 6, locals := 152 } : Room) D dA ad g ι sz [pX x, iX p0, pX po] Q (fun _ _ _ => False) 1 6 := by
  refine zg_enter [pX x, iX p0, pX po] (Qc := fun A => HPi D dA ad g A Q) (XC := fun A => XVC D dA ad g A (fun _ _ _ => False)) (by decide +kernel) (Nat.le_of_ble_eq_true rfl) ?_
  intro p e s m args below meth c A ls X hP hl htab
  obtain ⟨hx, hk, hlen, hF⟩ := hF
  refine ph_aload_n (n := 2) X hl dX0_kept_0 rfl rfl ?_
  refine lv_iconst (v := 0) X.1 X.2.1 dX0_kept_1 (by decide) ?_
  refine ph_aload_n (n := 0) X hl dX0_kept_2 rfl rfl ?_
  refine ph_iload_n (n := 1) X hl dX0_kept_3 rfl rfl ?_
  refine hl_tryE 1 [iX p0] X hP hx (met_X1_kept l D dA ad g hlt _ _ hF) (cwV 1 X.2.2.2.2.1 (lw_V q1649 q1650 q1651 q98 q1652) rfl rfl rfl (by decide +kernel) ⟨Nat.le_of_ble_eq_true rfl, Nat.le_of_ble_eq_true rfl⟩) rfl hl (k8 := 2) (csi (csr (cs0 (k := 0)))) (by decide) ⟨Nat.le_of_eq (Nat.zero_add _), Nat.le_of_eq (Nat.zero_add _)⟩ dX0_kept_4 rfl (fun k ι9 H locs q9 ce hx9 hP hce hv9 hcl => ?_) (fun r ι9 H locs hF hP => ?_)
  · obtain ⟨rfl, hx9⟩ := hx9
    refine hl_catchN (x0 := ⟨0, 9, 12, 18⟩) X htab (by decide) (by decide) q1551 hce hv9 hcl ?_
    refine hl_ast3 X hl dX0_kept_12 rfl (by decide) (fun ls => ?_)
    refine lv_iconst (v := 1) X.1 X.2.1 dX0_kept_13 (by decide) ?_
    exact hz_iret X hP HA.rf hx9 (Nat.le_of_eq (Nat.zero_add _)) (Nat.le_of_eq (Nat.zero_add _)) dX0_kept_14
  · show W p l e ({ frames := 8, cells := 1, slots := 6, locals := 152 } : Room) s m args below meth c H locs (0 + 1) (0 + 6) _ (F0 m 7 ls [.int r, .int 0, rv ad po])
    refine lv_i2l X.1 X.2.1 dX0_kept_7 rfl ?_
    refine hl_last X hP hk (k := 0) (nI_in0 hlen) (by decide) dX0_kept_8 hF (fun H locs ι2 hP hF => ?_)
    refine lv_goto (tgt := 15) X.1 X.2.1 dX0_kept_9 (by decide) ?_
    refine lv_iconst (v := 0) X.1 X.2.1 dX0_kept_15 (by decide) ?_
    exact hz_iret X hP HA.rf hF (Nat.le_of_eq (Nat.zero_add _)) (Nat.le_of_eq (Nat.zero_add _)) dX0_kept_16
def P_X0_every (x : Nat) (p0 : Int32) (p1 : Int32) (po : Nat) (g : GT) (ι : S) (Q : Int32 → GT → S → Prop) : Prop := gK g x = 2 ∧ gK g po = 109 ∧ 0 < gL g po ∧ P_X1_every g (fun k ι' => (k = 1 ∧ Q 1 g ι') ∨ (k = 2 ∧ Q 2 g ι')) x p0 p1 ι (fun r ι' => ∀ ι2, ι2 = up2 ι' po 0 r → Q 0 g ι2)
set_option maxHeartbeats 2000000 in
theorem met_X0_every (l : Launch) (D : va_G) (dA : Nat → ClassId) (ad : Nat → Nat) (hlt : l.stackTraces = false) (g : GT) (ι : S) (sz : Nat) {x po : Nat} {p0 : Int32} {p1 : Int32} {Q : Int32 → GT → S → Prop} (hF : P_X0_every x p0 p1 po g ι Q) : CZi l yX0_every cX0_every 5 .int [(0, 10, 13, 18), (0, 10, 17, 13)] ({ frames := 2111, cells := 3, slots := 18, locals := 45059 } : Room) D dA ad g ι sz [pX x, iX p0, iX p1, pX po] Q (fun _ _ _ => False) 3 18 := by
  refine zg_enter [pX x, iX p0, iX p1, pX po] (Qc := fun A => HPi D dA ad g A Q) (XC := fun A => XVC D dA ad g A (fun _ _ _ => False)) (by decide +kernel) (Nat.le_of_ble_eq_true rfl) ?_
  intro p e s m args below meth c A ls X hP hl htab
  obtain ⟨hx, hk, hlen, hF⟩ := hF
  refine ph_aload_n (n := 3) X hl dX0_every_0 rfl rfl ?_
  refine lv_iconst (v := 0) X.1 X.2.1 dX0_every_1 (by decide) ?_
  refine ph_aload_n (n := 0) X hl dX0_every_2 rfl rfl ?_
  refine ph_iload_n (n := 1) X hl dX0_every_3 rfl rfl ?_
  refine ph_iload_n (n := 2) X hl dX0_every_4 rfl rfl ?_
  refine hl_tryE 1 [iX p0, iX p1] X hP hx (met_X1_every l D dA ad g hlt _ _ hF) (cwV 2 X.2.2.2.2.1 (lw_V q1656 q1657 q1658 q98 q1659) rfl rfl rfl (by decide +kernel) ⟨Nat.le_of_ble_eq_true rfl, Nat.le_of_ble_eq_true rfl⟩) rfl hl (k8 := 2) (csi (csr (cs0 (k := 0)))) (by decide) ⟨Nat.le_of_eq (Nat.zero_add _), Nat.le_of_eq (Nat.zero_add _)⟩ dX0_every_5 rfl (fun k ι9 H locs q9 ce hx9 hP hce hv9 hcl => ?_) (fun r ι9 H locs hF hP => ?_)
  · rcases hx9 with ⟨rfl, hx9⟩ | ⟨rfl, hx9⟩
    · refine hl_catchN (x0 := ⟨0, 10, 13, 18⟩) X htab (by decide) (by decide) q1551 hce hv9 hcl ?_
      refine hl_ast X hl dX0_every_13 (by decide) (fun ls => ?_)
      refine lv_iconst (v := 1) X.1 X.2.1 dX0_every_15 (by decide) ?_
      exact hz_iret X hP HA.rf hx9 (Nat.le_of_eq (Nat.zero_add _)) (Nat.le_of_eq (Nat.zero_add _)) dX0_every_16
    · refine hl_catchI2 (x0 := ⟨0, 10, 13, 18⟩) (x1 := ⟨0, 10, 17, 13⟩) X htab (by decide) q1551 (by decide) (by decide) q1155 hce hv9 hcl ?_
      refine hl_ast X hl dX0_every_17 (by decide) (fun ls => ?_)
      refine lv_iconst (v := 2) X.1 X.2.1 dX0_every_19 (by decide) ?_
      exact hz_iret X hP HA.rf hx9 (Nat.le_of_eq (Nat.zero_add _)) (Nat.le_of_eq (Nat.zero_add _)) dX0_every_20
  · show W p l e ({ frames := 2111, cells := 3, slots := 18, locals := 45059 } : Room) s m args below meth c H locs (0 + 3) (0 + 18) _ (F0 m 8 ls [.int r, .int 0, rv ad po])
    refine lv_i2l X.1 X.2.1 dX0_every_8 rfl ?_
    refine hl_last X hP hk (k := 0) (nI_in0 hlen) (by decide) dX0_every_9 hF (fun H locs ι2 hP hF => ?_)
    refine lv_goto (tgt := 21) X.1 X.2.1 dX0_every_10 (by decide) ?_
    refine lv_iconst (v := 0) X.1 X.2.1 dX0_every_21 (by decide) ?_
    exact hz_iret X hP HA.rf hF (Nat.le_of_eq (Nat.zero_add _)) (Nat.le_of_eq (Nat.zero_add _)) dX0_every_22
def P_X0_bolsters (x : Nat) (p0 : Int32) (po : Nat) (g : GT) (ι : S) (Q : Int32 → GT → S → Prop) : Prop := gK g x = 2 ∧ gK g po = 109 ∧ 0 < gL g po ∧ P_X1_bolsters g (fun k ι' => k = 1 ∧ Q 1 g ι') x p0 ι (fun r ι' => ∀ ι2, ι2 = up2 ι' po 0 r → Q 0 g ι2)
set_option maxHeartbeats 2000000 in
theorem met_X0_bolsters (l : Launch) (D : va_G) (dA : Nat → ClassId) (ad : Nat → Nat) (hlt : l.stackTraces = false) (g : GT) (ι : S) (sz : Nat) {x po : Nat} {p0 : Int32} {Q : Int32 → GT → S → Prop} (hF : P_X0_bolsters x p0 po g ι Q) : CZi l yX0_bolsters cX0_bolsters 4 .int [(0, 9, 12, 18)] ({ frames := 2111, cells := 1, slots := 6, locals := 45057 } : Room) D dA ad g ι sz [pX x, iX p0, pX po] Q (fun _ _ _ => False) 1 6 := by
  refine zg_enter [pX x, iX p0, pX po] (Qc := fun A => HPi D dA ad g A Q) (XC := fun A => XVC D dA ad g A (fun _ _ _ => False)) (by decide +kernel) (Nat.le_of_ble_eq_true rfl) ?_
  intro p e s m args below meth c A ls X hP hl htab
  obtain ⟨hx, hk, hlen, hF⟩ := hF
  refine ph_aload_n (n := 2) X hl dX0_bolsters_0 rfl rfl ?_
  refine lv_iconst (v := 0) X.1 X.2.1 dX0_bolsters_1 (by decide) ?_
  refine ph_aload_n (n := 0) X hl dX0_bolsters_2 rfl rfl ?_
  refine ph_iload_n (n := 1) X hl dX0_bolsters_3 rfl rfl ?_
  refine hl_tryE 1 [iX p0] X hP hx (met_X1_bolsters l D dA ad g hlt _ _ hF) (cwV 1 X.2.2.2.2.1 (lw_V q1663 q1664 q1665 q98 q1666) rfl rfl rfl (by decide +kernel) ⟨Nat.le_of_ble_eq_true rfl, Nat.le_of_ble_eq_true rfl⟩) rfl hl (k8 := 2) (csi (csr (cs0 (k := 0)))) (by decide) ⟨Nat.le_of_eq (Nat.zero_add _), Nat.le_of_eq (Nat.zero_add _)⟩ dX0_bolsters_4 rfl (fun k ι9 H locs q9 ce hx9 hP hce hv9 hcl => ?_) (fun r ι9 H locs hF hP => ?_)
  · obtain ⟨rfl, hx9⟩ := hx9
    refine hl_catchN (x0 := ⟨0, 9, 12, 18⟩) X htab (by decide) (by decide) q1551 hce hv9 hcl ?_
    refine hl_ast3 X hl dX0_bolsters_12 rfl (by decide) (fun ls => ?_)
    refine lv_iconst (v := 1) X.1 X.2.1 dX0_bolsters_13 (by decide) ?_
    exact hz_iret X hP HA.rf hx9 (Nat.le_of_eq (Nat.zero_add _)) (Nat.le_of_eq (Nat.zero_add _)) dX0_bolsters_14
  · show W p l e ({ frames := 2111, cells := 1, slots := 6, locals := 45057 } : Room) s m args below meth c H locs (0 + 1) (0 + 6) _ (F0 m 7 ls [.int r, .int 0, rv ad po])
    refine lv_i2l X.1 X.2.1 dX0_bolsters_7 rfl ?_
    refine hl_last X hP hk (k := 0) (nI_in0 hlen) (by decide) dX0_bolsters_8 hF (fun H locs ι2 hP hF => ?_)
    refine lv_goto (tgt := 15) X.1 X.2.1 dX0_bolsters_9 (by decide) ?_
    refine lv_iconst (v := 0) X.1 X.2.1 dX0_bolsters_15 (by decide) ?_
    exact hz_iret X hP HA.rf hF (Nat.le_of_eq (Nat.zero_add _)) (Nat.le_of_eq (Nat.zero_add _)) dX0_bolsters_16
def P_X0_free (x : Nat) (p0 : Int32) (po : Nat) (g : GT) (ι : S) (Q : Int32 → GT → S → Prop) : Prop := gK g x = 2 ∧ gK g po = 109 ∧ 0 < gL g po ∧ P_X1_free g (fun k ι' => k = 1 ∧ Q 1 g ι') x p0 ι (fun r ι' => ∀ ι2, ι2 = up2 ι' po 0 r → Q 0 g ι2)
set_option maxHeartbeats 2000000 in
theorem met_X0_free (l : Launch) (D : va_G) (dA : Nat → ClassId) (ad : Nat → Nat) (hlt : l.stackTraces = false) (g : GT) (ι : S) (sz : Nat) {x po : Nat} {p0 : Int32} {Q : Int32 → GT → S → Prop} (hF : P_X0_free x p0 po g ι Q) : CZi l yX0_free cX0_free 4 .int [(0, 9, 12, 18)] ({ frames := 2110, cells := 1, slots := 6, locals := 45033 } : Room) D dA ad g ι sz [pX x, iX p0, pX po] Q (fun _ _ _ => False) 1 6 := by
  refine zg_enter [pX x, iX p0, pX po] (Qc := fun A => HPi D dA ad g A Q) (XC := fun A => XVC D dA ad g A (fun _ _ _ => False)) (by decide +kernel) (Nat.le_of_ble_eq_true rfl) ?_
  intro p e s m args below meth c A ls X hP hl htab
  obtain ⟨hx, hk, hlen, hF⟩ := hF
  refine ph_aload_n (n := 2) X hl dX0_free_0 rfl rfl ?_
  refine lv_iconst (v := 0) X.1 X.2.1 dX0_free_1 (by decide) ?_
  refine ph_aload_n (n := 0) X hl dX0_free_2 rfl rfl ?_
  refine ph_iload_n (n := 1) X hl dX0_free_3 rfl rfl ?_
  refine hl_tryE 1 [iX p0] X hP hx (met_X1_free l D dA ad g hlt _ _ hF) (cwV 1 X.2.2.2.2.1 (lw_V q1677 q1678 q1679 q98 q1680) rfl rfl rfl (by decide +kernel) ⟨Nat.le_of_ble_eq_true rfl, Nat.le_of_ble_eq_true rfl⟩) rfl hl (k8 := 2) (csi (csr (cs0 (k := 0)))) (by decide) ⟨Nat.le_of_eq (Nat.zero_add _), Nat.le_of_eq (Nat.zero_add _)⟩ dX0_free_4 rfl (fun k ι9 H locs q9 ce hx9 hP hce hv9 hcl => ?_) (fun r ι9 H locs hF hP => ?_)
  · obtain ⟨rfl, hx9⟩ := hx9
    refine hl_catchN (x0 := ⟨0, 9, 12, 18⟩) X htab (by decide) (by decide) q1551 hce hv9 hcl ?_
    refine hl_ast3 X hl dX0_free_12 rfl (by decide) (fun ls => ?_)
    refine lv_iconst (v := 1) X.1 X.2.1 dX0_free_13 (by decide) ?_
    exact hz_iret X hP HA.rf hx9 (Nat.le_of_eq (Nat.zero_add _)) (Nat.le_of_eq (Nat.zero_add _)) dX0_free_14
  · show W p l e ({ frames := 2110, cells := 1, slots := 6, locals := 45033 } : Room) s m args below meth c H locs (0 + 1) (0 + 6) _ (F0 m 7 ls [.int r, .int 0, rv ad po])
    refine lv_i2l X.1 X.2.1 dX0_free_7 rfl ?_
    refine hl_last X hP hk (k := 0) (nI_in0 hlen) (by decide) dX0_free_8 hF (fun H locs ι2 hP hF => ?_)
    refine lv_goto (tgt := 15) X.1 X.2.1 dX0_free_9 (by decide) ?_
    refine lv_iconst (v := 0) X.1 X.2.1 dX0_free_15 (by decide) ?_
    exact hz_iret X hP HA.rf hF (Nat.le_of_eq (Nat.zero_add _)) (Nat.le_of_eq (Nat.zero_add _)) dX0_free_16
def P_X0_outs (x : Nat) (p0 : Int32) (po : Nat) (g : GT) (ι : S) (Q : Int32 → GT → S → Prop) : Prop := gK g x = 2 ∧ gK g po = 109 ∧ 0 < gL g po ∧ P_X1_outs g (fun k ι' => k = 1 ∧ Q 1 g ι') x p0 ι (fun r ι' => ∀ ι2, ι2 = up2 ι' po 0 r → Q 0 g ι2)
set_option maxHeartbeats 2000000 in
theorem met_X0_outs (l : Launch) (D : va_G) (dA : Nat → ClassId) (ad : Nat → Nat) (hlt : l.stackTraces = false) (g : GT) (ι : S) (sz : Nat) {x po : Nat} {p0 : Int32} {Q : Int32 → GT → S → Prop} (hF : P_X0_outs x p0 po g ι Q) : CZi l yX0_outs cX0_outs 4 .int [(0, 9, 12, 18)] ({ frames := 8, cells := 1, slots := 6, locals := 153 } : Room) D dA ad g ι sz [pX x, iX p0, pX po] Q (fun _ _ _ => False) 1 6 := by
  refine zg_enter [pX x, iX p0, pX po] (Qc := fun A => HPi D dA ad g A Q) (XC := fun A => XVC D dA ad g A (fun _ _ _ => False)) (by decide +kernel) (Nat.le_of_ble_eq_true rfl) ?_
  intro p e s m args below meth c A ls X hP hl htab
  obtain ⟨hx, hk, hlen, hF⟩ := hF
  refine ph_aload_n (n := 2) X hl dX0_outs_0 rfl rfl ?_
  refine lv_iconst (v := 0) X.1 X.2.1 dX0_outs_1 (by decide) ?_
  refine ph_aload_n (n := 0) X hl dX0_outs_2 rfl rfl ?_
  refine ph_iload_n (n := 1) X hl dX0_outs_3 rfl rfl ?_
  refine hl_tryE 1 [iX p0] X hP hx (met_X1_outs l D dA ad g hlt _ _ hF) (cwV 1 X.2.2.2.2.1 (lw_V q1684 q1685 q1686 q98 q1687) rfl rfl rfl (by decide +kernel) ⟨Nat.le_of_ble_eq_true rfl, Nat.le_of_ble_eq_true rfl⟩) rfl hl (k8 := 2) (csi (csr (cs0 (k := 0)))) (by decide) ⟨Nat.le_of_eq (Nat.zero_add _), Nat.le_of_eq (Nat.zero_add _)⟩ dX0_outs_4 rfl (fun k ι9 H locs q9 ce hx9 hP hce hv9 hcl => ?_) (fun r ι9 H locs hF hP => ?_)
  · obtain ⟨rfl, hx9⟩ := hx9
    refine hl_catchN (x0 := ⟨0, 9, 12, 18⟩) X htab (by decide) (by decide) q1551 hce hv9 hcl ?_
    refine hl_ast3 X hl dX0_outs_12 rfl (by decide) (fun ls => ?_)
    refine lv_iconst (v := 1) X.1 X.2.1 dX0_outs_13 (by decide) ?_
    exact hz_iret X hP HA.rf hx9 (Nat.le_of_eq (Nat.zero_add _)) (Nat.le_of_eq (Nat.zero_add _)) dX0_outs_14
  · show W p l e ({ frames := 8, cells := 1, slots := 6, locals := 153 } : Room) s m args below meth c H locs (0 + 1) (0 + 6) _ (F0 m 7 ls [.int r, .int 0, rv ad po])
    refine lv_i2l X.1 X.2.1 dX0_outs_7 rfl ?_
    refine hl_last X hP hk (k := 0) (nI_in0 hlen) (by decide) dX0_outs_8 hF (fun H locs ι2 hP hF => ?_)
    refine lv_goto (tgt := 15) X.1 X.2.1 dX0_outs_9 (by decide) ?_
    refine lv_iconst (v := 0) X.1 X.2.1 dX0_outs_15 (by decide) ?_
    exact hz_iret X hP HA.rf hF (Nat.le_of_eq (Nat.zero_add _)) (Nat.le_of_eq (Nat.zero_add _)) dX0_outs_16
def P_X0_fair (x : Nat) (p0 : Int32) (p1 : Int32) (po : Nat) (g : GT) (ι : S) (Q : Int32 → GT → S → Prop) : Prop := gK g x = 2 ∧ gK g po = 109 ∧ 0 < gL g po ∧ P_X1_fair g (fun k ι' => (k = 1 ∧ Q 1 g ι') ∨ (k = 2 ∧ Q 2 g ι')) x p0 p1 ι (fun r ι' => ∀ ι2, ι2 = up2 ι' po 0 r → Q 0 g ι2)
set_option maxHeartbeats 2000000 in
theorem met_X0_fair (l : Launch) (D : va_G) (dA : Nat → ClassId) (ad : Nat → Nat) (hlt : l.stackTraces = false) (g : GT) (ι : S) (sz : Nat) {x po : Nat} {p0 : Int32} {p1 : Int32} {Q : Int32 → GT → S → Prop} (hF : P_X0_fair x p0 p1 po g ι Q) : CZi l yX0_fair cX0_fair 5 .int [(0, 10, 13, 18), (0, 10, 17, 13)] ({ frames := 2110, cells := 2, slots := 12, locals := 45037 } : Room) D dA ad g ι sz [pX x, iX p0, iX p1, pX po] Q (fun _ _ _ => False) 2 12 := by
  refine zg_enter [pX x, iX p0, iX p1, pX po] (Qc := fun A => HPi D dA ad g A Q) (XC := fun A => XVC D dA ad g A (fun _ _ _ => False)) (by decide +kernel) (Nat.le_of_ble_eq_true rfl) ?_
  intro p e s m args below meth c A ls X hP hl htab
  obtain ⟨hx, hk, hlen, hF⟩ := hF
  refine ph_aload_n (n := 3) X hl dX0_fair_0 rfl rfl ?_
  refine lv_iconst (v := 0) X.1 X.2.1 dX0_fair_1 (by decide) ?_
  refine ph_aload_n (n := 0) X hl dX0_fair_2 rfl rfl ?_
  refine ph_iload_n (n := 1) X hl dX0_fair_3 rfl rfl ?_
  refine ph_iload_n (n := 2) X hl dX0_fair_4 rfl rfl ?_
  refine hl_tryE 1 [iX p0, iX p1] X hP hx (met_X1_fair l D dA ad g hlt _ _ hF) (cwV 2 X.2.2.2.2.1 (lw_V q1694 q1695 q1696 q98 q1697) rfl rfl rfl (by decide +kernel) ⟨Nat.le_of_ble_eq_true rfl, Nat.le_of_ble_eq_true rfl⟩) rfl hl (k8 := 2) (csi (csr (cs0 (k := 0)))) (by decide) ⟨Nat.le_of_eq (Nat.zero_add _), Nat.le_of_eq (Nat.zero_add _)⟩ dX0_fair_5 rfl (fun k ι9 H locs q9 ce hx9 hP hce hv9 hcl => ?_) (fun r ι9 H locs hF hP => ?_)
  · rcases hx9 with ⟨rfl, hx9⟩ | ⟨rfl, hx9⟩
    · refine hl_catchN (x0 := ⟨0, 10, 13, 18⟩) X htab (by decide) (by decide) q1551 hce hv9 hcl ?_
      refine hl_ast X hl dX0_fair_13 (by decide) (fun ls => ?_)
      refine lv_iconst (v := 1) X.1 X.2.1 dX0_fair_15 (by decide) ?_
      exact hz_iret X hP HA.rf hx9 (Nat.le_of_eq (Nat.zero_add _)) (Nat.le_of_eq (Nat.zero_add _)) dX0_fair_16
    · refine hl_catchI2 (x0 := ⟨0, 10, 13, 18⟩) (x1 := ⟨0, 10, 17, 13⟩) X htab (by decide) q1551 (by decide) (by decide) q1155 hce hv9 hcl ?_
      refine hl_ast X hl dX0_fair_17 (by decide) (fun ls => ?_)
      refine lv_iconst (v := 2) X.1 X.2.1 dX0_fair_19 (by decide) ?_
      exact hz_iret X hP HA.rf hx9 (Nat.le_of_eq (Nat.zero_add _)) (Nat.le_of_eq (Nat.zero_add _)) dX0_fair_20
  · show W p l e ({ frames := 2110, cells := 2, slots := 12, locals := 45037 } : Room) s m args below meth c H locs (0 + 2) (0 + 12) _ (F0 m 8 ls [.int r, .int 0, rv ad po])
    refine lv_i2l X.1 X.2.1 dX0_fair_8 rfl ?_
    refine hl_last X hP hk (k := 0) (nI_in0 hlen) (by decide) dX0_fair_9 hF (fun H locs ι2 hP hF => ?_)
    refine lv_goto (tgt := 21) X.1 X.2.1 dX0_fair_10 (by decide) ?_
    refine lv_iconst (v := 0) X.1 X.2.1 dX0_fair_21 (by decide) ?_
    exact hz_iret X hP HA.rf hF (Nat.le_of_eq (Nat.zero_add _)) (Nat.le_of_eq (Nat.zero_add _)) dX0_fair_22
def P_X0_see (x : Nat) (p0 : Int32) (p1 : Int32) (p2 : Int32) (po : Nat) (g : GT) (ι : S) (Q : Int32 → GT → S → Prop) : Prop := gK g x = 2 ∧ gK g po = 109 ∧ 0 < gL g po ∧ P_X1_see g (fun k ι' => k = 1 ∧ Q 1 g ι') x p0 p1 p2 ι (fun r ι' => ∀ ι2, ι2 = up2 ι' po 0 r → Q 0 g ι2)
set_option maxHeartbeats 2000000 in
theorem met_X0_see (l : Launch) (D : va_G) (dA : Nat → ClassId) (ad : Nat → Nat) (hlt : l.stackTraces = false) (g : GT) (ι : S) (sz : Nat) {x po : Nat} {p0 : Int32} {p1 : Int32} {p2 : Int32} {Q : Int32 → GT → S → Prop} (hF : P_X0_see x p0 p1 p2 po g ι Q) : CZi l yX0_see cX0_see 6 .int [(0, 12, 15, 18)] ({ frames := 9, cells := 1, slots := 6, locals := 177 } : Room) D dA ad g ι sz [pX x, iX p0, iX p1, iX p2, pX po] Q (fun _ _ _ => False) 1 6 := by
  refine zg_enter [pX x, iX p0, iX p1, iX p2, pX po] (Qc := fun A => HPi D dA ad g A Q) (XC := fun A => XVC D dA ad g A (fun _ _ _ => False)) (by decide +kernel) (Nat.le_of_ble_eq_true rfl) ?_
  intro p e s m args below meth c A ls X hP hl htab
  obtain ⟨hx, hk, hlen, hF⟩ := hF
  refine ph_aload (n := 4) X hl dX0_see_0 rfl ?_
  refine lv_iconst (v := 0) X.1 X.2.1 dX0_see_2 (by decide) ?_
  refine ph_aload_n (n := 0) X hl dX0_see_3 rfl rfl ?_
  refine ph_iload_n (n := 1) X hl dX0_see_4 rfl rfl ?_
  refine ph_iload_n (n := 2) X hl dX0_see_5 rfl rfl ?_
  refine ph_iload_n (n := 3) X hl dX0_see_6 rfl rfl ?_
  refine hl_tryE 1 [iX p0, iX p1, iX p2] X hP hx (met_X1_see l D dA ad g hlt _ _ hF) (cwV 3 X.2.2.2.2.1 (lw_V q1706 q1707 q1708 q98 q1709) rfl rfl rfl (by decide +kernel) ⟨Nat.le_of_ble_eq_true rfl, Nat.le_of_ble_eq_true rfl⟩) rfl hl (k8 := 2) (csi (csr (cs0 (k := 0)))) (by decide) ⟨Nat.le_of_eq (Nat.zero_add _), Nat.le_of_eq (Nat.zero_add _)⟩ dX0_see_7 rfl (fun k ι9 H locs q9 ce hx9 hP hce hv9 hcl => ?_) (fun r ι9 H locs hF hP => ?_)
  · obtain ⟨rfl, hx9⟩ := hx9
    refine hl_catchN (x0 := ⟨0, 12, 15, 18⟩) X htab (by decide) (by decide) q1551 hce hv9 hcl ?_
    refine hl_ast X hl dX0_see_15 (by decide) (fun ls => ?_)
    refine lv_iconst (v := 1) X.1 X.2.1 dX0_see_17 (by decide) ?_
    exact hz_iret X hP HA.rf hx9 (Nat.le_of_eq (Nat.zero_add _)) (Nat.le_of_eq (Nat.zero_add _)) dX0_see_18
  · show W p l e ({ frames := 9, cells := 1, slots := 6, locals := 177 } : Room) s m args below meth c H locs (0 + 1) (0 + 6) _ (F0 m 10 ls [.int r, .int 0, rv ad po])
    refine lv_i2l X.1 X.2.1 dX0_see_10 rfl ?_
    refine hl_last X hP hk (k := 0) (nI_in0 hlen) (by decide) dX0_see_11 hF (fun H locs ι2 hP hF => ?_)
    refine lv_goto (tgt := 19) X.1 X.2.1 dX0_see_12 (by decide) ?_
    refine lv_iconst (v := 0) X.1 X.2.1 dX0_see_19 (by decide) ?_
    exact hz_iret X hP HA.rf hF (Nat.le_of_eq (Nat.zero_add _)) (Nat.le_of_eq (Nat.zero_add _)) dX0_see_20
def P_X0_fits (x : Nat) (p0 : Int32) (po : Nat) (g : GT) (ι : S) (Q : Int32 → GT → S → Prop) : Prop := gK g x = 2 ∧ gK g po = 109 ∧ 0 < gL g po ∧ P_X1_fits g (fun k ι' => k = 1 ∧ Q 1 g ι') x p0 ι (fun r ι' => ∀ ι2, ι2 = up2 ι' po 0 r → Q 0 g ι2)
set_option maxHeartbeats 2000000 in
theorem met_X0_fits (l : Launch) (D : va_G) (dA : Nat → ClassId) (ad : Nat → Nat) (hlt : l.stackTraces = false) (g : GT) (ι : S) (sz : Nat) {x po : Nat} {p0 : Int32} {Q : Int32 → GT → S → Prop} (hF : P_X0_fits x p0 po g ι Q) : CZi l yX0_fits cX0_fits 4 .int [(0, 9, 12, 18)] ({ frames := 2109, cells := 1, slots := 6, locals := 45017 } : Room) D dA ad g ι sz [pX x, iX p0, pX po] Q (fun _ _ _ => False) 1 6 := by
  refine zg_enter [pX x, iX p0, pX po] (Qc := fun A => HPi D dA ad g A Q) (XC := fun A => XVC D dA ad g A (fun _ _ _ => False)) (by decide +kernel) (Nat.le_of_ble_eq_true rfl) ?_
  intro p e s m args below meth c A ls X hP hl htab
  obtain ⟨hx, hk, hlen, hF⟩ := hF
  refine ph_aload_n (n := 2) X hl dX0_fits_0 rfl rfl ?_
  refine lv_iconst (v := 0) X.1 X.2.1 dX0_fits_1 (by decide) ?_
  refine ph_aload_n (n := 0) X hl dX0_fits_2 rfl rfl ?_
  refine ph_iload_n (n := 1) X hl dX0_fits_3 rfl rfl ?_
  refine hl_tryE 1 [iX p0] X hP hx (met_X1_fits l D dA ad g hlt _ _ hF) (cwV 1 X.2.2.2.2.1 (lw_V q1713 q1714 q1715 q98 q1716) rfl rfl rfl (by decide +kernel) ⟨Nat.le_of_ble_eq_true rfl, Nat.le_of_ble_eq_true rfl⟩) rfl hl (k8 := 2) (csi (csr (cs0 (k := 0)))) (by decide) ⟨Nat.le_of_eq (Nat.zero_add _), Nat.le_of_eq (Nat.zero_add _)⟩ dX0_fits_4 rfl (fun k ι9 H locs q9 ce hx9 hP hce hv9 hcl => ?_) (fun r ι9 H locs hF hP => ?_)
  · obtain ⟨rfl, hx9⟩ := hx9
    refine hl_catchN (x0 := ⟨0, 9, 12, 18⟩) X htab (by decide) (by decide) q1551 hce hv9 hcl ?_
    refine hl_ast3 X hl dX0_fits_12 rfl (by decide) (fun ls => ?_)
    refine lv_iconst (v := 1) X.1 X.2.1 dX0_fits_13 (by decide) ?_
    exact hz_iret X hP HA.rf hx9 (Nat.le_of_eq (Nat.zero_add _)) (Nat.le_of_eq (Nat.zero_add _)) dX0_fits_14
  · show W p l e ({ frames := 2109, cells := 1, slots := 6, locals := 45017 } : Room) s m args below meth c H locs (0 + 1) (0 + 6) _ (F0 m 7 ls [.int r, .int 0, rv ad po])
    refine lv_i2l X.1 X.2.1 dX0_fits_7 rfl ?_
    refine hl_last X hP hk (k := 0) (nI_in0 hlen) (by decide) dX0_fits_8 hF (fun H locs ι2 hP hF => ?_)
    refine lv_goto (tgt := 15) X.1 X.2.1 dX0_fits_9 (by decide) ?_
    refine lv_iconst (v := 0) X.1 X.2.1 dX0_fits_15 (by decide) ?_
    exact hz_iret X hP HA.rf hF (Nat.le_of_eq (Nat.zero_add _)) (Nat.le_of_eq (Nat.zero_add _)) dX0_fits_16
def P_X0_without (x : Nat) (p0 : Int32) (po : Nat) (g : GT) (ι : S) (Q : Int32 → GT → S → Prop) : Prop := gK g x = 2 ∧ gK g po = 109 ∧ 0 < gL g po ∧ P_X1_without g (fun k ι' => k = 1 ∧ Q 1 g ι') x p0 ι (fun r ι' => ∀ ι2, ι2 = up2 ι' po 0 r → Q 0 g ι2)
set_option maxHeartbeats 2000000 in
theorem met_X0_without (l : Launch) (D : va_G) (dA : Nat → ClassId) (ad : Nat → Nat) (hlt : l.stackTraces = false) (g : GT) (ι : S) (sz : Nat) {x po : Nat} {p0 : Int32} {Q : Int32 → GT → S → Prop} (hF : P_X0_without x p0 po g ι Q) : CZi l yX0_without cX0_without 4 .int [(0, 9, 12, 18)] ({ frames := 2111, cells := 1, slots := 6, locals := 45054 } : Room) D dA ad g ι sz [pX x, iX p0, pX po] Q (fun _ _ _ => False) 1 6 := by
  refine zg_enter [pX x, iX p0, pX po] (Qc := fun A => HPi D dA ad g A Q) (XC := fun A => XVC D dA ad g A (fun _ _ _ => False)) (by decide +kernel) (Nat.le_of_ble_eq_true rfl) ?_
  intro p e s m args below meth c A ls X hP hl htab
  obtain ⟨hx, hk, hlen, hF⟩ := hF
  refine ph_aload_n (n := 2) X hl dX0_without_0 rfl rfl ?_
  refine lv_iconst (v := 0) X.1 X.2.1 dX0_without_1 (by decide) ?_
  refine ph_aload_n (n := 0) X hl dX0_without_2 rfl rfl ?_
  refine ph_iload_n (n := 1) X hl dX0_without_3 rfl rfl ?_
  refine hl_tryE 1 [iX p0] X hP hx (met_X1_without l D dA ad g hlt _ _ hF) (cwV 1 X.2.2.2.2.1 (lw_V q1731 q1732 q1733 q98 q1734) rfl rfl rfl (by decide +kernel) ⟨Nat.le_of_ble_eq_true rfl, Nat.le_of_ble_eq_true rfl⟩) rfl hl (k8 := 2) (csi (csr (cs0 (k := 0)))) (by decide) ⟨Nat.le_of_eq (Nat.zero_add _), Nat.le_of_eq (Nat.zero_add _)⟩ dX0_without_4 rfl (fun k ι9 H locs q9 ce hx9 hP hce hv9 hcl => ?_) (fun r ι9 H locs hF hP => ?_)
  · obtain ⟨rfl, hx9⟩ := hx9
    refine hl_catchN (x0 := ⟨0, 9, 12, 18⟩) X htab (by decide) (by decide) q1551 hce hv9 hcl ?_
    refine hl_ast3 X hl dX0_without_12 rfl (by decide) (fun ls => ?_)
    refine lv_iconst (v := 1) X.1 X.2.1 dX0_without_13 (by decide) ?_
    exact hz_iret X hP HA.rf hx9 (Nat.le_of_eq (Nat.zero_add _)) (Nat.le_of_eq (Nat.zero_add _)) dX0_without_14
  · show W p l e ({ frames := 2111, cells := 1, slots := 6, locals := 45054 } : Room) s m args below meth c H locs (0 + 1) (0 + 6) _ (F0 m 7 ls [.int r, .int 0, rv ad po])
    refine lv_i2l X.1 X.2.1 dX0_without_7 rfl ?_
    refine hl_last X hP hk (k := 0) (nI_in0 hlen) (by decide) dX0_without_8 hF (fun H locs ι2 hP hF => ?_)
    refine lv_goto (tgt := 15) X.1 X.2.1 dX0_without_9 (by decide) ?_
    refine lv_iconst (v := 0) X.1 X.2.1 dX0_without_15 (by decide) ?_
    exact hz_iret X hP HA.rf hF (Nat.le_of_eq (Nat.zero_add _)) (Nat.le_of_eq (Nat.zero_add _)) dX0_without_16
def P_X0_year (x : Nat) (p0 : Int32) (p1 : Int32) (p2 : Int32) (po : Nat) (g : GT) (ι : S) (Q : Int32 → GT → S → Prop) : Prop := gK g x = 2 ∧ gK g po = 109 ∧ 0 < gL g po ∧ P_X1_year g (fun k ι' => (k = 1 ∧ Q 1 g ι') ∨ (k = 2 ∧ Q 2 g ι')) x p0 p1 p2 ι (fun r ι' => ∀ ι2, ι2 = up2 ι' po 0 r → Q 0 g ι2)
set_option maxHeartbeats 2000000 in
theorem met_X0_year (l : Launch) (D : va_G) (dA : Nat → ClassId) (ad : Nat → Nat) (hlt : l.stackTraces = false) (g : GT) (ι : S) (sz : Nat) {x po : Nat} {p0 : Int32} {p1 : Int32} {p2 : Int32} {Q : Int32 → GT → S → Prop} (hF : P_X0_year x p0 p1 p2 po g ι Q) : CZi l yX0_year cX0_year 6 .int [(0, 12, 15, 18), (0, 12, 19, 13)] ({ frames := 2111, cells := 2, slots := 12, locals := 45060 } : Room) D dA ad g ι sz [pX x, iX p0, iX p1, iX p2, pX po] Q (fun _ _ _ => False) 2 12 := by
  refine zg_enter [pX x, iX p0, iX p1, iX p2, pX po] (Qc := fun A => HPi D dA ad g A Q) (XC := fun A => XVC D dA ad g A (fun _ _ _ => False)) (by decide +kernel) (Nat.le_of_ble_eq_true rfl) ?_
  intro p e s m args below meth c A ls X hP hl htab
  obtain ⟨hx, hk, hlen, hF⟩ := hF
  refine ph_aload (n := 4) X hl dX0_year_0 rfl ?_
  refine lv_iconst (v := 0) X.1 X.2.1 dX0_year_2 (by decide) ?_
  refine ph_aload_n (n := 0) X hl dX0_year_3 rfl rfl ?_
  refine ph_iload_n (n := 1) X hl dX0_year_4 rfl rfl ?_
  refine ph_iload_n (n := 2) X hl dX0_year_5 rfl rfl ?_
  refine ph_iload_n (n := 3) X hl dX0_year_6 rfl rfl ?_
  refine hl_tryE 1 [iX p0, iX p1, iX p2] X hP hx (met_X1_year l D dA ad g hlt _ _ hF) (cwV 3 X.2.2.2.2.1 (lw_V q1743 q1744 q1745 q98 q1746) rfl rfl rfl (by decide +kernel) ⟨Nat.le_of_ble_eq_true rfl, Nat.le_of_ble_eq_true rfl⟩) rfl hl (k8 := 2) (csi (csr (cs0 (k := 0)))) (by decide) ⟨Nat.le_of_eq (Nat.zero_add _), Nat.le_of_eq (Nat.zero_add _)⟩ dX0_year_7 rfl (fun k ι9 H locs q9 ce hx9 hP hce hv9 hcl => ?_) (fun r ι9 H locs hF hP => ?_)
  · rcases hx9 with ⟨rfl, hx9⟩ | ⟨rfl, hx9⟩
    · refine hl_catchN (x0 := ⟨0, 12, 15, 18⟩) X htab (by decide) (by decide) q1551 hce hv9 hcl ?_
      refine hl_ast X hl dX0_year_15 (by decide) (fun ls => ?_)
      refine lv_iconst (v := 1) X.1 X.2.1 dX0_year_17 (by decide) ?_
      exact hz_iret X hP HA.rf hx9 (Nat.le_of_eq (Nat.zero_add _)) (Nat.le_of_eq (Nat.zero_add _)) dX0_year_18
    · refine hl_catchI2 (x0 := ⟨0, 12, 15, 18⟩) (x1 := ⟨0, 12, 19, 13⟩) X htab (by decide) q1551 (by decide) (by decide) q1155 hce hv9 hcl ?_
      refine hl_ast X hl dX0_year_19 (by decide) (fun ls => ?_)
      refine lv_iconst (v := 2) X.1 X.2.1 dX0_year_21 (by decide) ?_
      exact hz_iret X hP HA.rf hx9 (Nat.le_of_eq (Nat.zero_add _)) (Nat.le_of_eq (Nat.zero_add _)) dX0_year_22
  · show W p l e ({ frames := 2111, cells := 2, slots := 12, locals := 45060 } : Room) s m args below meth c H locs (0 + 2) (0 + 12) _ (F0 m 10 ls [.int r, .int 0, rv ad po])
    refine lv_i2l X.1 X.2.1 dX0_year_10 rfl ?_
    refine hl_last X hP hk (k := 0) (nI_in0 hlen) (by decide) dX0_year_11 hF (fun H locs ι2 hP hF => ?_)
    refine lv_goto (tgt := 23) X.1 X.2.1 dX0_year_12 (by decide) ?_
    refine lv_iconst (v := 0) X.1 X.2.1 dX0_year_23 (by decide) ?_
    exact hz_iret X hP HA.rf hF (Nat.le_of_eq (Nat.zero_add _)) (Nat.le_of_eq (Nat.zero_add _)) dX0_year_24
