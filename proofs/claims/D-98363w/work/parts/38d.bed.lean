set_option maxRecDepth 100000
section HGA
variable {p : Program} {l : Launch} {e : Env} {s : State} {m : MethodId} {args : Array Value} {below : List Frame} {meth : Method} {c : Code} {D : va_G} {dA : Nat → ClassId} {ad0 : Nat → Nat} {A : Nat → Prop} {g0 : GT}
def P_X1_bed_17 (BC BS : Nat) (Xq : Nat → GT → S → Prop) (Q : Int32 → GT → S → Prop) (y0 : Int32) (x0 : Nat) (x1 : Int32) (g : GT) (ι : S) (uc us : Nat) : Prop := ((uc + 1 ≤ BC ∧ us + 6 ≤ BS) ∧ (P_X1_right g (fun k ι9 => Xq k g ι9) y0 ι (fun ι2 => (gK g x0 = 2 ∧ (∀ ι6, ι6 = up2 ι2 x0 14 0 → (∀ ι7, ι7 = up2 ι6 x0 15 (-1) → (x0 < 200 + gN g ∧ ((uc + 2 ≤ BC ∧ us + 15 ≤ BS) ∧ (∀ g10 ι11, g10 = newg g 8 0 → ι11 = newi g ι7 → (∃ b15 d16, ((uc + 2 + b15 ≤ BC ∧ us + 15 + d16 ≤ BS) ∧ (P_X9_init b15 d16 (200 + gN g) (gR g10 x0 13) x1 g10 ι11 (fun g18 ι19 => (∃ b23 d24, ((uc + 2 + b15 + b23 ≤ BC ∧ us + 15 + d16 + d24 ≤ BS) ∧ (gK g18 (200 + gN g) = 8 ∧ (P_X9_bed b23 d24 (fun k9 v89 g90 ι91 => k9 = 3 ∧ (gK g90 x0 = 2 ∧ (∀ ι96, ι96 = up2 ι91 x0 15 (ι91 v89 7) → (gK g90 (gR g90 x0 1) = 5 ∧ (gK g90 (gR g90 (gR g90 x0 1) 5) = 100 ∧ (vp_in 0 (gL g90 (gR g90 (gR g90 x0 1) 5)) ∧ (vp_in 0 (gL g90 (gR g90 (gR g90 x0 1) 5)) ∧ (∀ ι102, ι102 = up2 ι96 (gR g90 (gR g90 x0 1) 5) 0 ((ι96 (gR g90 (gR g90 x0 1) 5) 0) + 1) → (Q (ι102 v89 6) g90 ι102))))))))) (200 + gN g) g18 ι19 (fun r30 g27 ι28 => (gK g27 x0 = 2 ∧ (∀ g33, g33 = setg g27 x0 0 r30 → (gK g33 (gR g33 x0 3) = 6 ∧ (P_X6_begins g33 (gR g33 x0 3) (gR g33 x0 0) ι28 (fun ι38 => ((uc + 2 + b15 + b23 + 1 ≤ BC ∧ us + 15 + d16 + d24 + 15 ≤ BS) ∧ (∀ g42 ι43, g42 = newg g33 7 0 → ι43 = newi g33 ι38 → ((uc + 2 + b15 + b23 + 6 ≤ BC ∧ us + 15 + d16 + d24 + 50 ≤ BS) ∧ (P_X7_init 5 35 (200 + gN g33) (gR g42 x0 0) (gR g42 x0 3) (gR g42 x0 5) (gR g42 x0 6) (gR g42 x0 7) (gR g42 x0 8) g42 ι43 (fun g53 ι54 => (gK g53 x0 = 2 ∧ (∀ g59, g59 = setg g53 x0 10 (200 + gN g33) → ((uc + 2 + b15 + b23 + 7 ≤ BC ∧ us + 15 + d16 + d24 + 65 ≤ BS) ∧ (∀ g63 ι64, g63 = newg g59 7 0 → ι64 = newi g59 ι54 → ((uc + 2 + b15 + b23 + 12 ≤ BC ∧ us + 15 + d16 + d24 + 100 ≤ BS) ∧ (P_X7_init 5 35 (200 + gN g59) (gR g63 x0 0) (gR g63 x0 4) (gR g63 x0 9) (gR g63 x0 9) (gR g63 x0 9) (gR g63 x0 9) g63 ι64 (fun g74 ι75 => (gK g74 x0 = 2 ∧ (∀ g80, g80 = setg g74 x0 11 (200 + gN g59) → (gK g80 (gR g80 x0 1) = 5 ∧ (∀ ι84, ι84 = up2 ι75 (gR g80 x0 1) 6 0 → (∀ ι86, ι86 = up2 ι84 (gR g80 x0 1) 7 0 → (∀ ι87, ι87 = up2 ι86 x0 18 0 → (∀ ι88, ι88 = up2 ι87 x0 12 0 → (Q 0 g80 ι88)))))))))))))))))))))))))))))))))))))))))))
def P_X1_bed_16 (BC BS : Nat) (Xq : Nat → GT → S → Prop) (Q : Int32 → GT → S → Prop) (x0 : Nat) (x1 : Int32) (g : GT) (ι : S) (uc us : Nat) : Prop := (P_X1_bed_17 BC BS Xq Q 0 x0 x1 g ι (uc) (us))
def P_X1_bed (BC BS : Nat) (Xq : Nat → GT → S → Prop) (a0 : Nat) (a1 : Int32) (g : GT) (ι : S) (Q : Int32 → GT → S → Prop) : Prop := ((a1 < 0 → (P_X1_bed_16 BC BS Xq Q a0 a1 g ι (0) (0))) ∧ (¬ a1 < 0 → (gK g a0 = 2 ∧ (((ι a0 14) < a1 → (P_X1_bed_16 BC BS Xq Q a0 a1 g ι (0) (0))) ∧ (¬ (ι a0 14) < a1 → (P_X1_bed_17 BC BS Xq Q 1 a0 a1 g ι (0) (0)))))))
set_option maxHeartbeats 2000000 in
theorem w_X1_bed_17 (hlt : l.stackTraces = false) (htab : c.exceptionTable.toList = tableOf [(30, 49, 52, 132)]) {Xq : Nat → GT → S → Prop} {BC BS : Nat} {Q : Int32 → GT → S → Prop} : ∀ (y0 : Int32) (x0 : Nat) (x1 : Int32) (g : GT) (ι : S) (uc us : Nat) (ad : Nat → Nat) (H : Heap) (locs : List Loc) (ls : Array Slot), P_X1_bed_17 BC BS Xq Q y0 x0 x1 g ι uc us → CX p s m args c meth cX1_bed 3 (some .int) RX1 D dA ad A → PW D dA A s.heap ad (HS g ι) H locs → HA ad0 g0 ad g → LH ad ls 3 [(0, pX x0), (1, iX x1)] → WZi p l e ({ frames := 182, cells := BC, slots := BS, locals := 4914 } : Room) s m args below meth c D dA ad0 g0 A Q Xq BC BS H locs (uc) (us) (F0 m 17 ls [.int y0]) := by
  intro y0 x0 x1 g ι uc us ad H locs ls hF X hP hag hl
  unfold P_X1_bed_17 at hF
  obtain ⟨hd4, hF⟩ := hF
  refine hz_callSv [iX y0] X hP htab (by decide) (met_X1_right l D dA ad g hlt _ _ hF) (va_cwS 1 X.2.2.2.2.1 (lw_S q1161 q1162 q98 q1163) rfl rfl rfl (by decide +kernel) ⟨Nat.le_of_ble_eq_true rfl, Nat.le_of_ble_eq_true rfl⟩) rfl hag hl (k8 := 0) (cs0 (k := 0)) (by decide) hd4 hd4.1 hd4.2 dX1_bed_17 rfl (fun ι2 H locs hF hP => ?_)
  show WZi p l e ({ frames := 182, cells := BC, slots := BS, locals := 4914 } : Room) s m args below meth c D dA ad0 g0 A Q Xq BC BS H locs (uc + 1) (us + 6) (F0 m 20 ls [])
  refine ph_aload_n (n := 0) X hl dX1_bed_20 rfl rfl ?_
  refine lv_iconst (v := 0) X.1 X.2.1 dX1_bed_21 (by decide) ?_
  obtain ⟨hm5, hF⟩ := hF
  refine hg_puti 1 14 X in_X1 tyX1 tyX1_ok nmX1 hP hm5 q813 dX1_bed_22 rfl rfl hF (fun H locs ι6 hP hF => ?_)
  refine ph_aload_n (n := 0) X hl dX1_bed_25 rfl rfl ?_
  refine lv_iconst (v := (-1)) X.1 X.2.1 dX1_bed_26 (by decide) ?_
  refine hg_puti 1 15 X in_X1 tyX1 tyX1_ok nmX1 hP hm5 q814 dX1_bed_27 rfl rfl hF (fun H locs ι7 hP hF => ?_)
  refine ph_aload_n (n := 0) X hl dX1_bed_30 rfl rfl ?_
  obtain ⟨hx8, hF⟩ := hF
  obtain ⟨hd9, hF⟩ := hF
  refine hg_new 7 [pX x0] X hP hag hl (ltlp hx8 (ltli ltln)) (ltsp hx8 ltsn) in_X9 tyX9 tyX9_ok (by decide +kernel) q1175 q1176 q127 hd9 dX1_bed_31 rfl hF (fun H ad g10 ι11 X hP hag he12 hk13 hl hF => ?_)
  show WZi p l e ({ frames := 182, cells := BC, slots := BS, locals := 4914 } : Room) s m args below meth c D dA ad0 g0 A Q Xq BC BS H locs (uc + 2) (us + 15) (F0 m 34 ls [rv ad (200 + gN g), rv ad x0])
  refine ph_dup_r X dX1_bed_34 ?_
  refine ph_aload_n (n := 0) X hl dX1_bed_35 rfl rfl ?_
  have hv14 := gR_lt hP x0 13
  refine cg_getr 1 13 X in_X1 hP (by rw [hk13.2 _ hx8]; exact hm5) q812 dX1_bed_36 ?_
  refine ph_iload_n (n := 1) X hl dX1_bed_39 rfl rfl ?_
  obtain ⟨b15, d16, hF⟩ := hF
  obtain ⟨hd17, hF⟩ := hF
  have hl : LH ad ls 3 [(0, pX x0)] := lh_sub hl [0] rfl
  refine hg_callI [pX (gR g10 x0 13), iX x1] [pX (200 + gN g), pX x0] X hP (cg_nz hP hk13.1 (by decide)) (met_X9_init l D dA ad _ _ _ _ _ hF) (cwI 2 X.2.2.2.2.1 (lw_meth q1179) rfl rfl rfl (X.2.2.2.2.1 _ q127) (X.2.2.2.2.1 _ q1177) (X.2.2.2.2.1 _ q1178) rfl (by decide +kernel) ⟨Nat.le_of_ble_eq_true rfl, Nat.le_of_ble_eq_true rfl⟩) rfl hag hl (ltlp (ltm hx8 (Nat.le_of_succ_le he12)) ltln) (ltsp (ltw he12) (ltsp (ltm hx8 (Nat.le_of_succ_le he12)) ltsn)) (k8 := 2) (csr (csr (cs0 (k := 0)))) (by decide) hd17 dX1_bed_40 rfl (fun ad g18 ι19 H locs hF X hP hag he20 hl => ?_)
  show WZi p l e ({ frames := 182, cells := BC, slots := BS, locals := 4914 } : Room) s m args below meth c D dA ad0 g0 A Q Xq BC BS H locs (uc + 2 + b15) (us + 15 + d16) (F0 m 43 ls [rv ad (200 + gN g), rv ad x0])
  obtain ⟨b23, d24, hF⟩ := hF
  obtain ⟨hd25, hF⟩ := hF
  obtain ⟨hm26, hF⟩ := hF
  refine hz_callVq 7 [] [pX x0] X hP (x0 := ⟨30, 49, 52, 132⟩) htab (by decide) (by decide) q1160 q1306 hm26 (met_X9_bed l D dA ad _ _ hlt _ _ _ hF) (cwV 0 X.2.2.2.2.1 (lw_V q1278 q1279 q1280 q127 q1281) rfl rfl rfl (by decide +kernel) ⟨Nat.le_of_ble_eq_true rfl, Nat.le_of_ble_eq_true rfl⟩) rfl hag hl (ltlp (ltm (ltm hx8 (Nat.le_of_succ_le he12)) he20) ltln) (ltsp (ltm (ltm hx8 (Nat.le_of_succ_le he12)) he20) ltsn) (k8 := 1) (csr (cs0 (k := 0))) (by decide) hd25 dX1_bed_43 rfl (fun v89 ad g90 ι91 H locs hF hv93 hk94 X hP hag he92 hl => ?_) (fun r30 ad g27 ι28 H locs hF hv31 X hP hag he29 hl => ?_)
  · show WZi p l e ({ frames := 182, cells := BC, slots := BS, locals := 4914 } : Room) s m args below meth c D dA ad0 g0 A Q Xq BC BS H locs (uc + 2 + b15 + b23) (us + 15 + d16 + d24) (F0 m 52 ls [rv ad v89])
    refine ph_astore_n X hl dX1_bed_52 rfl (by decide) rfl (fun ls hl => ?_)
    refine ph_aload_n (n := 1) X hl dX1_bed_53 rfl rfl ?_
    refine ph_aload_n (n := 0) X hl dX1_bed_54 rfl rfl ?_
    refine cg_getiN 8 7 X in_X10 hP hk94 q1320 dX1_bed_55 ?_
    obtain ⟨hm95, hF⟩ := hF
    refine hg_puti 1 15 X in_X1 tyX1 tyX1_ok nmX1 hP hm95 q814 dX1_bed_58 rfl rfl hF (fun H locs ι96 hP hF => ?_)
    refine ph_aload_n (n := 1) X hl dX1_bed_61 rfl rfl ?_
    have hv97 := gR_lt hP x0 1
    refine cg_getr 1 1 X in_X1 hP hm95 q800 dX1_bed_62 ?_
    obtain ⟨hm98, hF⟩ := hF
    have hv99 := gR_lt hP (gR g90 x0 1) 5
    refine cg_getrN 4 5 X in_X5 hP hm98 q687 dX1_bed_65 ?_
    refine lv_iconst (v := 0) X.1 X.2.1 dX1_bed_68 (by decide) ?_
    refine ph_dup2_ir X dX1_bed_69 ?_
    obtain ⟨hm100, hF⟩ := hF
    obtain ⟨hr101, hF⟩ := hF
    refine cg_iald X hP hm100 hr101 (k := 0) (by decide) dX1_bed_70 ?_
    refine lv_iconst (v := 1) X.1 X.2.1 dX1_bed_71 (by decide) ?_
    refine lv_iadd X.1 X.2.1 dX1_bed_72 ?_
    obtain ⟨hr103, hF⟩ := hF
    refine cg_iast X hP hm100 hr103 (k := 0) (by decide) dX1_bed_73 hF (fun H locs ι102 hP hF => ?_)
    refine ph_aload_n (n := 0) X hl dX1_bed_74 rfl rfl ?_
    refine cg_getiN 8 6 X in_X10 hP hk94 q1318 dX1_bed_75 ?_
    exact hz_iret X hP hag hF hd25.1 hd25.2 dX1_bed_78
  · show WZi p l e ({ frames := 182, cells := BC, slots := BS, locals := 4914 } : Room) s m args below meth c D dA ad0 g0 A Q Xq BC BS H locs (uc + 2 + b15 + b23) (us + 15 + d16 + d24) (F0 m 46 ls [rv ad r30, rv ad x0])
    obtain ⟨hm32, hF⟩ := hF
    refine hg_putr 1 0 X in_X1 tyX1 tyX1_ok nmX1 hP hm32 q799 dX1_bed_46 hv31 hF (fun H locs g33 hP he34 hF => ?_) (Or.inl ⟨_, rfl⟩)
    have hag : HA ad0 g0 ad g33 := ⟨by rw [he34.1]; exact hag.1, hag.2⟩
    refine lv_goto (tgt := 79) X.1 X.2.1 dX1_bed_49 (by decide) ?_
    refine ph_aload_n (n := 0) X hl dX1_bed_79 rfl rfl ?_
    have hv35 := gR_lt hP x0 3
    refine cg_getr 1 3 X in_X1 hP (by rw [he34.2.1]; exact hm32) q802 dX1_bed_80 ?_
    refine ph_aload_n (n := 0) X hl dX1_bed_83 rfl rfl ?_
    have hv36 := gR_lt hP x0 0
    refine cg_getr 1 0 X in_X1 hP (by rw [he34.2.1]; exact hm32) q799 dX1_bed_84 ?_
    obtain ⟨hm40, hF⟩ := hF
    refine cg_callVv 5 [pX (gR g33 x0 0)] X hP hm40 (met_X6_begins l D dA ad g33 _ _ hF) (cwV 1 X.2.2.2.2.1 (lw_V q769 q770 q771 q123 q772) rfl rfl rfl (by decide +kernel) ⟨Nat.le_of_ble_eq_true rfl, Nat.le_of_ble_eq_true rfl⟩) rfl hl (k8 := 0) (cs0 (k := 0)) (by decide) hd25 dX1_bed_87 rfl (fun ι38 H locs hF hP => ?_)
    refine ph_aload_n (n := 0) X hl dX1_bed_90 rfl rfl ?_
    obtain ⟨hd41, hF⟩ := hF
    refine hg_new 6 [pX x0] X hP hag hl (ltlp (ltm (ltm (ltm (ltm hx8 (Nat.le_of_succ_le he12)) he20) he29) (Nat.le_of_eq he34.1.symm)) ltln) (ltsp (ltm (ltm (ltm (ltm hx8 (Nat.le_of_succ_le he12)) he20) he29) (Nat.le_of_eq he34.1.symm)) ltsn) in_X7 tyX7 tyX7_ok (by decide +kernel) q711 q712 q124 hd41 dX1_bed_91 rfl hF (fun H ad g42 ι43 X hP hag he44 hk45 hl hF => ?_)
    show WZi p l e ({ frames := 182, cells := BC, slots := BS, locals := 4914 } : Room) s m args below meth c D dA ad0 g0 A Q Xq BC BS H locs (uc + 2 + b15 + b23 + 1) (us + 15 + d16 + d24 + 15) (F0 m 94 ls [rv ad (200 + gN g33), rv ad x0])
    refine ph_dup_r X dX1_bed_94 ?_
    refine ph_aload_n (n := 0) X hl dX1_bed_95 rfl rfl ?_
    have hv46 := gR_lt hP x0 0
    refine cg_getr 1 0 X in_X1 hP (by rw [hk45.2 _ (ltm (ltm (ltm (ltm hx8 (Nat.le_of_succ_le he12)) he20) he29) (Nat.le_of_eq he34.1.symm))]; exact (by rw [he34.2.1]; exact hm32)) q799 dX1_bed_96 ?_
    refine ph_aload_n (n := 0) X hl dX1_bed_99 rfl rfl ?_
    have hv47 := gR_lt hP x0 3
    refine cg_getr 1 3 X in_X1 hP (by rw [hk45.2 _ (ltm (ltm (ltm (ltm hx8 (Nat.le_of_succ_le he12)) he20) he29) (Nat.le_of_eq he34.1.symm))]; exact (by rw [he34.2.1]; exact hm32)) q802 dX1_bed_100 ?_
    refine ph_aload_n (n := 0) X hl dX1_bed_103 rfl rfl ?_
    have hv48 := gR_lt hP x0 5
    refine cg_getr 1 5 X in_X1 hP (by rw [hk45.2 _ (ltm (ltm (ltm (ltm hx8 (Nat.le_of_succ_le he12)) he20) he29) (Nat.le_of_eq he34.1.symm))]; exact (by rw [he34.2.1]; exact hm32)) q804 dX1_bed_104 ?_
    refine ph_aload_n (n := 0) X hl dX1_bed_107 rfl rfl ?_
    have hv49 := gR_lt hP x0 6
    refine cg_getr 1 6 X in_X1 hP (by rw [hk45.2 _ (ltm (ltm (ltm (ltm hx8 (Nat.le_of_succ_le he12)) he20) he29) (Nat.le_of_eq he34.1.symm))]; exact (by rw [he34.2.1]; exact hm32)) q805 dX1_bed_108 ?_
    refine ph_aload_n (n := 0) X hl dX1_bed_111 rfl rfl ?_
    have hv50 := gR_lt hP x0 7
    refine cg_getr 1 7 X in_X1 hP (by rw [hk45.2 _ (ltm (ltm (ltm (ltm hx8 (Nat.le_of_succ_le he12)) he20) he29) (Nat.le_of_eq he34.1.symm))]; exact (by rw [he34.2.1]; exact hm32)) q806 dX1_bed_112 ?_
    refine ph_aload_n (n := 0) X hl dX1_bed_115 rfl rfl ?_
    have hv51 := gR_lt hP x0 8
    refine cg_getr 1 8 X in_X1 hP (by rw [hk45.2 _ (ltm (ltm (ltm (ltm hx8 (Nat.le_of_succ_le he12)) he20) he29) (Nat.le_of_eq he34.1.symm))]; exact (by rw [he34.2.1]; exact hm32)) q807 dX1_bed_116 ?_
    obtain ⟨hd52, hF⟩ := hF
    refine hg_callI [pX (gR g42 x0 0), pX (gR g42 x0 3), pX (gR g42 x0 5), pX (gR g42 x0 6), pX (gR g42 x0 7), pX (gR g42 x0 8)] [pX (200 + gN g33), pX x0] X hP (cg_nz hP hk45.1 (by decide)) (met_X7_init l D dA ad _ _ _ _ _ hF) (cwI 6 X.2.2.2.2.1 (lw_meth q715) rfl rfl rfl (X.2.2.2.2.1 _ q124) (X.2.2.2.2.1 _ q713) (X.2.2.2.2.1 _ q714) rfl (by decide +kernel) ⟨Nat.le_of_ble_eq_true rfl, Nat.le_of_ble_eq_true rfl⟩) rfl hag hl (ltlp (ltm (ltm (ltm (ltm (ltm hx8 (Nat.le_of_succ_le he12)) he20) he29) (Nat.le_of_eq he34.1.symm)) (Nat.le_of_succ_le he44)) ltln) (ltsp (ltw he44) (ltsp (ltm (ltm (ltm (ltm (ltm hx8 (Nat.le_of_succ_le he12)) he20) he29) (Nat.le_of_eq he34.1.symm)) (Nat.le_of_succ_le he44)) ltsn)) (k8 := 2) (csr (csr (cs0 (k := 0)))) (by decide) hd52 dX1_bed_119 rfl (fun ad g53 ι54 H locs hF X hP hag he55 hl => ?_)
    show WZi p l e ({ frames := 182, cells := BC, slots := BS, locals := 4914 } : Room) s m args below meth c D dA ad0 g0 A Q Xq BC BS H locs (uc + 2 + b15 + b23 + 6) (us + 15 + d16 + d24 + 50) (F0 m 122 ls [rv ad (200 + gN g33), rv ad x0])
    obtain ⟨hm58, hF⟩ := hF
    refine hg_putr 1 10 X in_X1 tyX1 tyX1_ok nmX1 hP hm58 q809 dX1_bed_122 (ltm (ltw he44) he55) hF (fun H locs g59 hP he60 hF => ?_) (Or.inl ⟨_, rfl⟩)
    have hag : HA ad0 g0 ad g59 := ⟨by rw [he60.1]; exact hag.1, hag.2⟩
    refine ph_aload_n (n := 0) X hl dX1_bed_125 rfl rfl ?_
    have hx61 : x0 < 200 + gN g59 := (ltm (ltm (ltm (ltm (ltm (ltm (ltm hx8 (Nat.le_of_succ_le he12)) he20) he29) (Nat.le_of_eq he34.1.symm)) (Nat.le_of_succ_le he44)) he55) (Nat.le_of_eq he60.1.symm))
    obtain ⟨hd62, hF⟩ := hF
    refine hg_new 6 [pX x0] X hP hag hl (ltlp hx61 ltln) (ltsp hx61 ltsn) in_X7 tyX7 tyX7_ok (by decide +kernel) q711 q712 q124 hd62 dX1_bed_126 rfl hF (fun H ad g63 ι64 X hP hag he65 hk66 hl hF => ?_)
    show WZi p l e ({ frames := 182, cells := BC, slots := BS, locals := 4914 } : Room) s m args below meth c D dA ad0 g0 A Q Xq BC BS H locs (uc + 2 + b15 + b23 + 7) (us + 15 + d16 + d24 + 65) (F0 m 129 ls [rv ad (200 + gN g59), rv ad x0])
    refine ph_dup_r X dX1_bed_129 ?_
    refine ph_aload_n (n := 0) X hl dX1_bed_130 rfl rfl ?_
    have hv67 := gR_lt hP x0 0
    refine cg_getr 1 0 X in_X1 hP (by rw [hk66.2 _ hx61]; exact (by rw [he60.2.1]; exact hm58)) q799 dX1_bed_131 ?_
    refine ph_aload_n (n := 0) X hl dX1_bed_134 rfl rfl ?_
    have hv68 := gR_lt hP x0 4
    refine cg_getr 1 4 X in_X1 hP (by rw [hk66.2 _ hx61]; exact (by rw [he60.2.1]; exact hm58)) q803 dX1_bed_135 ?_
    refine ph_aload_n (n := 0) X hl dX1_bed_138 rfl rfl ?_
    have hv69 := gR_lt hP x0 9
    refine cg_getr 1 9 X in_X1 hP (by rw [hk66.2 _ hx61]; exact (by rw [he60.2.1]; exact hm58)) q808 dX1_bed_139 ?_
    refine ph_aload_n (n := 0) X hl dX1_bed_142 rfl rfl ?_
    have hv70 := gR_lt hP x0 9
    refine cg_getr 1 9 X in_X1 hP (by rw [hk66.2 _ hx61]; exact (by rw [he60.2.1]; exact hm58)) q808 dX1_bed_143 ?_
    refine ph_aload_n (n := 0) X hl dX1_bed_146 rfl rfl ?_
    have hv71 := gR_lt hP x0 9
    refine cg_getr 1 9 X in_X1 hP (by rw [hk66.2 _ hx61]; exact (by rw [he60.2.1]; exact hm58)) q808 dX1_bed_147 ?_
    refine ph_aload_n (n := 0) X hl dX1_bed_150 rfl rfl ?_
    have hv72 := gR_lt hP x0 9
    refine cg_getr 1 9 X in_X1 hP (by rw [hk66.2 _ hx61]; exact (by rw [he60.2.1]; exact hm58)) q808 dX1_bed_151 ?_
    obtain ⟨hd73, hF⟩ := hF
    refine hg_callI [pX (gR g63 x0 0), pX (gR g63 x0 4), pX (gR g63 x0 9), pX (gR g63 x0 9), pX (gR g63 x0 9), pX (gR g63 x0 9)] [pX (200 + gN g59), pX x0] X hP (cg_nz hP hk66.1 (by decide)) (met_X7_init l D dA ad _ _ _ _ _ hF) (cwI 6 X.2.2.2.2.1 (lw_meth q715) rfl rfl rfl (X.2.2.2.2.1 _ q124) (X.2.2.2.2.1 _ q713) (X.2.2.2.2.1 _ q714) rfl (by decide +kernel) ⟨Nat.le_of_ble_eq_true rfl, Nat.le_of_ble_eq_true rfl⟩) rfl hag hl (ltlp (ltm hx61 (Nat.le_of_succ_le he65)) ltln) (ltsp (ltw he65) (ltsp (ltm hx61 (Nat.le_of_succ_le he65)) ltsn)) (k8 := 2) (csr (csr (cs0 (k := 0)))) (by decide) hd73 dX1_bed_154 rfl (fun ad g74 ι75 H locs hF X hP hag he76 hl => ?_)
    show WZi p l e ({ frames := 182, cells := BC, slots := BS, locals := 4914 } : Room) s m args below meth c D dA ad0 g0 A Q Xq BC BS H locs (uc + 2 + b15 + b23 + 12) (us + 15 + d16 + d24 + 100) (F0 m 157 ls [rv ad (200 + gN g59), rv ad x0])
    obtain ⟨hm79, hF⟩ := hF
    refine hg_putr 1 11 X in_X1 tyX1 tyX1_ok nmX1 hP hm79 q810 dX1_bed_157 (ltm (ltw he65) he76) hF (fun H locs g80 hP he81 hF => ?_) (Or.inl ⟨_, rfl⟩)
    have hag : HA ad0 g0 ad g80 := ⟨by rw [he81.1]; exact hag.1, hag.2⟩
    refine ph_aload_n (n := 0) X hl dX1_bed_160 rfl rfl ?_
    have hv82 := gR_lt hP x0 1
    refine cg_getr 1 1 X in_X1 hP (by rw [he81.2.1]; exact hm79) q800 dX1_bed_161 ?_
    refine lv_iconst (v := 0) X.1 X.2.1 dX1_bed_164 (by decide) ?_
    obtain ⟨hm83, hF⟩ := hF
    refine hg_putiN 4 6 X in_X5 tyX5 tyX5_ok nmX5 hP hm83 q689 dX1_bed_165 rfl rfl hF (fun H locs ι84 hP hF => ?_)
    refine ph_aload_n (n := 0) X hl dX1_bed_168 rfl rfl ?_
    have hv85 := gR_lt hP x0 1
    refine cg_getr 1 1 X in_X1 hP (by rw [he81.2.1]; exact hm79) q800 dX1_bed_169 ?_
    refine lv_iconst (v := 0) X.1 X.2.1 dX1_bed_172 (by decide) ?_
    refine hg_putiN 4 7 X in_X5 tyX5 tyX5_ok nmX5 hP hm83 q691 dX1_bed_173 rfl rfl hF (fun H locs ι86 hP hF => ?_)
    refine ph_aload_n (n := 0) X hl dX1_bed_176 rfl rfl ?_
    refine lv_iconst (v := 0) X.1 X.2.1 dX1_bed_177 (by decide) ?_
    refine hg_puti 1 18 X in_X1 tyX1 tyX1_ok nmX1 hP (by rw [he81.2.1]; exact hm79) q817 dX1_bed_178 (isB_nar isB_0) (isB_fit isB_0) hF (fun H locs ι87 hP hF => ?_)
    refine ph_aload_n (n := 0) X hl dX1_bed_181 rfl rfl ?_
    refine lv_iconst (v := 0) X.1 X.2.1 dX1_bed_182 (by decide) ?_
    refine hg_puti 1 12 X in_X1 tyX1 tyX1_ok nmX1 hP (by rw [he81.2.1]; exact hm79) q811 dX1_bed_183 (isB_nar isB_0) (isB_fit isB_0) hF (fun H locs ι88 hP hF => ?_)
    refine lv_iconst (v := 0) X.1 X.2.1 dX1_bed_186 (by decide) ?_
    exact hz_iret X hP hag hF hd73.1 hd73.2 dX1_bed_187
set_option maxHeartbeats 2000000 in
theorem w_X1_bed_16 (hlt : l.stackTraces = false) (htab : c.exceptionTable.toList = tableOf [(30, 49, 52, 132)]) {Xq : Nat → GT → S → Prop} {BC BS : Nat} {Q : Int32 → GT → S → Prop} : ∀ (x0 : Nat) (x1 : Int32) (g : GT) (ι : S) (uc us : Nat) (ad : Nat → Nat) (H : Heap) (locs : List Loc) (ls : Array Slot), P_X1_bed_16 BC BS Xq Q x0 x1 g ι uc us → CX p s m args c meth cX1_bed 3 (some .int) RX1 D dA ad A → PW D dA A s.heap ad (HS g ι) H locs → HA ad0 g0 ad g → LH ad ls 3 [(0, pX x0), (1, iX x1)] → WZi p l e ({ frames := 182, cells := BC, slots := BS, locals := 4914 } : Room) s m args below meth c D dA ad0 g0 A Q Xq BC BS H locs (uc) (us) (F0 m 16 ls []) := by
  intro x0 x1 g ι uc us ad H locs ls hF X hP hag hl
  unfold P_X1_bed_16 at hF
  refine lv_iconst (v := 0) X.1 X.2.1 dX1_bed_16 (by decide) ?_
  exact w_X1_bed_17 hlt htab _ _ _ _ _ _ _ _ _ _ _ hF X hP hag hl
set_option maxHeartbeats 2000000 in
theorem we_X1_bed (hlt : l.stackTraces = false) (htab : c.exceptionTable.toList = tableOf [(30, 49, 52, 132)]) {Xq : Nat → GT → S → Prop} {BC BS : Nat} {Q : Int32 → GT → S → Prop} : ∀ (a0 : Nat) (a1 : Int32) (g : GT) (ι : S) (ad : Nat → Nat) (H : Heap) (locs : List Loc) (ls : Array Slot), P_X1_bed BC BS Xq a0 a1 g ι Q → CX p s m args c meth cX1_bed 3 (some .int) RX1 D dA ad A → PW D dA A s.heap ad (HS g ι) H locs → HA ad0 g0 ad g → LH ad ls 3 [(0, pX a0), (1, iX a1)] → WZi p l e ({ frames := 182, cells := BC, slots := BS, locals := 4914 } : Room) s m args below meth c D dA ad0 g0 A Q Xq BC BS H locs (0) (0) (F0 m 0 ls []) := by
  intro a0 a1 g ι ad H locs ls hF X hP hag hl
  unfold P_X1_bed at hF
  refine ph_iload_n (n := 1) X hl dX1_bed_0 rfl rfl ?_
  refine lv_if_lt (tgt := 16) X.1 X.2.1 dX1_bed_1 (by decide) (fun c106 => ?_) (fun c106 => ?_)
  · have hF := hF.1 c106
    exact w_X1_bed_16 hlt htab _ _ _ _ _ _ _ _ _ _ hF X hP hag hl
  · have hF := hF.2 c106
    refine ph_iload_n (n := 1) X hl dX1_bed_4 rfl rfl ?_
    refine ph_aload_n (n := 0) X hl dX1_bed_5 rfl rfl ?_
    obtain ⟨hm104, hF⟩ := hF
    refine cg_geti 1 14 X in_X1 hP hm104 q813 dX1_bed_6 ?_
    refine lv_icmp_gt (tgt := 16) X.1 X.2.1 dX1_bed_9 (by decide) (fun c105 => ?_) (fun c105 => ?_)
    · have hF := hF.1 c105
      exact w_X1_bed_16 hlt htab _ _ _ _ _ _ _ _ _ _ hF X hP hag hl
    · have hF := hF.2 c105
      refine lv_iconst (v := 1) X.1 X.2.1 dX1_bed_12 (by decide) ?_
      refine lv_goto (tgt := 17) X.1 X.2.1 dX1_bed_13 (by decide) ?_
      exact w_X1_bed_17 hlt htab _ _ _ _ _ _ _ _ _ _ _ hF X hP hag hl
set_option maxHeartbeats 2000000 in
theorem met_X1_bed (l : Launch) (D : va_G) (dA : Nat → ClassId) (ad : Nat → Nat) (BC BS : Nat) (hlt : l.stackTraces = false) {Xq : Nat → GT → S → Prop} (g : GT) (ι : S) (sz : Nat) {a0 : Nat} {a1 : Int32} {Q : Int32 → GT → S → Prop} (hF : P_X1_bed BC BS Xq a0 a1 g ι Q) : CZi l yX1_bed cX1_bed 3 .int [(30, 49, 52, 132)] ({ frames := 182, cells := BC, slots := BS, locals := 4914 } : Room) D dA ad g ι sz [pX a0, iX a1] Q Xq BC BS := by
  refine zg_enter [pX a0, iX a1] (Qc := fun A => HPi D dA ad g A Q) (XC := fun A => XVC D dA ad g A Xq) (by decide +kernel) (Nat.le_of_ble_eq_true rfl) ?_
  intro p e s m args below meth c A ls X hP hl htab
  exact we_X1_bed hlt htab _ _ _ _ _ _ _ _ hF X hP HA.rf hl
end HGA
