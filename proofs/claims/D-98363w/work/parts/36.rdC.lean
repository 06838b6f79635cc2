set_option maxRecDepth 100000
section HGA
variable {p : Program} {l : Launch} {e : Env} {s : State} {m : MethodId} {args : Array Value} {below : List Frame} {meth : Method} {c : Code} {D : va_G} {dA : Nat → ClassId} {ad0 : Nat → Nat} {A : Nat → Prop} {g0 : GT}
def P_X10_init (BC BS : Nat) (a0 : Nat) (a1 : Int32) (a2 : Int32) (g : GT) (ι : S) (Q : GT → S → Prop) : Prop := (gK g a0 = 9 ∧ (gR g a0 4 = 0 ∧ (∀ w3 w4 g5, (w3 = 0 ∨ w3 = 132) → (w4 = 0 ∨ w4 = 133) → g5 = setga g a0 (fun k => if k = 0 then a0 else if k = 1 then w3 else if k = 2 then w4 else gR g a0 k) → (∀ ι7, ι7 = up2 ι a0 6 a1 → (∀ ι8, ι8 = up2 ι7 a0 7 a2 → (Q g5 ι8))))))
set_option maxHeartbeats 2000000 in
theorem we_X10_init (hnm : meth.name = "<init>") (hlt : l.stackTraces = false) {BC BS : Nat} {Q : GT → S → Prop} : ∀ (a0 : Nat) (a1 : Int32) (a2 : Int32) (g : GT) (ι : S) (ad : Nat → Nat) (H : Heap) (locs : List Loc) (ls : Array Slot), P_X10_init BC BS a0 a1 a2 g ι Q → freshM H (ad a0) → CX p s m args c meth cX10_init 3 none RX10 D dA ad A → PW D dA A s.heap ad (HS g ι) H locs → HA ad0 g0 ad g → LH ad ls 3 [(0, pX a0), (1, iX a1), (2, iX a2)] → WHv p l e ({ frames := 8, cells := BC, slots := BS, locals := 160 } : Room) s m args below meth c D dA ad0 g0 A Q BC BS H locs (0) (0) (F0 m 0 ls []) := by
  intro a0 a1 a2 g ι ad H locs ls hF hfr X hP hag hl
  unfold P_X10_init at hF
  refine ph_aload_n (n := 0) X hl dX10_init_0 rfl rfl ?_
  obtain ⟨hm1, hF⟩ := hF
  obtain ⟨hb2, hF⟩ := hF
  refine hf_super (P := fun g5 => _) X hP hl hlt hm1 hb2 hfr q1316 ⟨Nat.le_of_ble_eq_true rfl, Nat.le_of_ble_eq_true rfl⟩ dX10_init_1 hF (fun H locs g5 hP he6 hF => ?_)
  have hag : HA ad0 g0 ad g5 := ⟨by rw [he6.1]; exact hag.1, hag.2⟩
  refine ph_aload_n (n := 0) X hl dX10_init_4 rfl rfl ?_
  refine ph_iload_n (n := 1) X hl dX10_init_5 rfl rfl ?_
  refine hg_putiF 8 6 X in_X10 tyX10 tyX10_ok nmX10 hP (by rw [he6.2.1]; exact hm1) q1317 hnm dX10_init_6 rfl rfl hF (fun H locs ι7 hP hF => ?_)
  refine ph_aload_n (n := 0) X hl dX10_init_9 rfl rfl ?_
  refine ph_iload_n (n := 2) X hl dX10_init_10 rfl rfl ?_
  refine hg_putiF 8 7 X in_X10 tyX10 tyX10_ok nmX10 hP (by rw [he6.2.1]; exact hm1) q1319 hnm dX10_init_11 rfl rfl hF (fun H locs ι8 hP hF => ?_)
  exact hg_vret X hP hag hF (Nat.zero_le _) (Nat.zero_le _) dX10_init_14
set_option maxHeartbeats 2000000 in
theorem met_X10_init (l : Launch) (D : va_G) (dA : Nat → ClassId) (ad : Nat → Nat) (BC BS : Nat) (hlt : l.stackTraces = false) (g : GT) (ι : S) (sz : Nat) {a0 : Nat} {a1 : Int32} {a2 : Int32} {Q : GT → S → Prop} (hF : P_X10_init BC BS a0 a1 a2 g ι Q) : CHFv l yX10_init cX10_init 3 ({ frames := 8, cells := BC, slots := BS, locals := 160 } : Room) D dA ad g ι sz a0 [iX a1, iX a2] Q BC BS := by
  refine ph_enterF [iX a1, iX a2] (Qc := fun A => HPv D dA ad g A Q) (by decide +kernel) (Nat.le_of_ble_eq_true rfl) ?_
  intro p e s m args below meth c A ls X hP hl hnm hfr
  have hnm : meth.name = "<init>" := hnm
  exact we_X10_init hnm hlt _ _ _ _ _ _ _ _ _ hF hfr X hP HA.rf hl
def P_X9_check (BC BS : Nat) (Xq : Nat → Nat → GT → S → Prop) (a0 : Nat) (a1 : Int32) (a2 : Int32) (g : GT) (ι : S) (Q : GT → S → Prop) : Prop := ((¬ a1 = 0 → (Q g ι)) ∧ (a1 = 0 → (a0 < 200 + gN g ∧ ((1 ≤ BC ∧ 8 ≤ BS) ∧ (∀ g3 ι4, g3 = newg g 9 0 → ι4 = newi g ι → (gK g3 a0 = 8 ∧ ((1 ≤ BC ∧ 8 ≤ BS) ∧ (P_X10_init 0 0 (200 + gN g) a2 (ι4 a0 3) g3 ι4 (fun g9 ι10 => (gK g9 (200 + gN g) = 9 ∧ (Xq 3 (200 + gN g) g9 ι10)))))))))))
set_option maxHeartbeats 2000000 in
theorem we_X9_check (hlt : l.stackTraces = false) (hex : ∀ x ∈ c.exceptionTable.toList, False) {Xq : Nat → Nat → GT → S → Prop} {BC BS : Nat} {Q : GT → S → Prop} : ∀ (a0 : Nat) (a1 : Int32) (a2 : Int32) (g : GT) (ι : S) (ad : Nat → Nat) (H : Heap) (locs : List Loc) (ls : Array Slot), P_X9_check BC BS Xq a0 a1 a2 g ι Q → CX p s m args c meth cX9_check 3 none RX9 D dA ad A → PW D dA A s.heap ad (HS g ι) H locs → HA ad0 g0 ad g → LH ad ls 3 [(0, pX a0), (1, iX a1), (2, iX a2)] → WYv p l e ({ frames := 9, cells := BC, slots := BS, locals := 182 } : Room) s m args below meth c D dA ad0 g0 A Q Xq BC BS H locs (0) (0) (F0 m 0 ls []) := by
  intro a0 a1 a2 g ι ad H locs ls hF X hP hag hl
  unfold P_X9_check at hF
  refine ph_iload_n (n := 1) X hl dX9_check_0 rfl rfl ?_
  refine lv_if_ne (tgt := 17) X.1 X.2.1 dX9_check_1 (by decide) (fun c15 => ?_) (fun c15 => ?_)
  · have hF := hF.1 c15
    exact hy_vret X hP hag hF (Nat.zero_le _) (Nat.zero_le _) dX9_check_17
  · have hF := hF.2 c15
    obtain ⟨hx1, hF⟩ := hF
    obtain ⟨hd2, hF⟩ := hF
    have hl : LH ad ls 3 [(0, pX a0), (2, iX a2)] := lh_sub hl [0, 2] rfl
    refine hg_newF 8 [] X hP hag hl (ltlp hx1 (ltli ltln)) ltsn in_X10 tyX10 tyX10_ok (by decide +kernel) q1304 q1305 q129 hd2 dX9_check_4 rfl hF (fun H ad g3 ι4 X hP hag he5 hk6 hfr hl hF => ?_)
    show WYv p l e ({ frames := 9, cells := BC, slots := BS, locals := 182 } : Room) s m args below meth c D dA ad0 g0 A Q Xq BC BS H locs (1) (8) (F0 m 7 ls [rv ad (200 + gN g)])
    refine ph_dup_r X dX9_check_7 ?_
    refine ph_iload_n (n := 1) X hl dX9_check_8 rfl rfl ?_
    refine ph_aload_n (n := 0) X hl dX9_check_9 rfl rfl ?_
    obtain ⟨hm7, hF⟩ := hF
    refine cg_geti 7 3 X in_X9 hP hm7 q1252 dX9_check_10 ?_
    obtain ⟨hd8, hF⟩ := hF
    have hl : LH ad ls 3 [] := lh_sub hl [] rfl
    refine hg_callIF [iX a2, iX (ι4 a0 3)] [pX (200 + gN g)] X hP (cg_nz hP hk6.1 (by decide)) hfr (met_X10_init l D dA ad _ _ hlt _ _ _ hF) (cwI 2 X.2.2.2.2.1 (lw_meth q1315) rfl rfl rfl (X.2.2.2.2.1 _ q129) (X.2.2.2.2.1 _ q1313) (X.2.2.2.2.1 _ q1314) rfl (by decide +kernel) ⟨Nat.le_of_ble_eq_true rfl, Nat.le_of_ble_eq_true rfl⟩) rfl hag hl ltln (ltsp (ltw he5) ltsn) (k8 := 1) (csr (cs0 (k := 0))) (by decide) hd8 dX9_check_13 rfl (fun ad g9 ι10 H locs hF X hP hag he11 hl => ?_)
    show WYv p l e ({ frames := 9, cells := BC, slots := BS, locals := 182 } : Room) s m args below meth c D dA ad0 g0 A Q Xq BC BS H locs (1) (8) (F0 m 16 ls [rv ad (200 + gN g)])
    obtain ⟨hm14, hF⟩ := hF
    exact hy_throw X hP hag hex hm14 hF hd8.1 hd8.2 dX9_check_16
set_option maxHeartbeats 2000000 in
theorem met_X9_check (l : Launch) (D : va_G) (dA : Nat → ClassId) (ad : Nat → Nat) (BC BS : Nat) (hlt : l.stackTraces = false) {Xq : Nat → Nat → GT → S → Prop} (g : GT) (ι : S) (sz : Nat) {a0 : Nat} {a1 : Int32} {a2 : Int32} {Q : GT → S → Prop} (hF : P_X9_check BC BS Xq a0 a1 a2 g ι Q) : CYv l yX9_check cX9_check 3 ({ frames := 9, cells := BC, slots := BS, locals := 182 } : Room) D dA ad g ι sz [pX a0, iX a1, iX a2] Q Xq BC BS := by
  refine yg_enter [pX a0, iX a1, iX a2] (Qc := fun A => HPv D dA ad g A Q) (XC := fun A => XHC D dA ad g A Xq) (by decide +kernel) (Nat.le_of_ble_eq_true rfl) ?_
  intro p e s m args below meth c A ls X hP hl hex
  exact we_X9_check hlt hex _ _ _ _ _ _ _ _ _ hF X hP HA.rf hl
def P_X9_need (BC BS : Nat) (Xq : Nat → Nat → GT → S → Prop) (a0 : Nat) (a1 : Nat) (g : GT) (ι : S) (Q : GT → S → Prop) : Prop := (gK g a0 = 8 ∧ (P_X9_is g a0 a1 ι (fun r1 ι2 => (a0 < 200 + gN g ∧ (∃ b6 d7, ((0 + b6 ≤ BC ∧ 0 + d7 ≤ BS) ∧ (P_X9_check b6 d7 Xq a0 r1 1 g ι2 (fun g9 ι10 => (∃ b14 d15, ((0 + b6 + b14 ≤ BC ∧ 0 + d7 + d15 ≤ BS) ∧ (gK g9 a0 = 8 ∧ (P_X9_go b14 d15 a0 g9 ι10 (fun g17 ι18 => (Q g17 ι18))))))))))))))
set_option maxHeartbeats 2000000 in
theorem we_X9_need (hlt : l.stackTraces = false) (hex : ∀ x ∈ c.exceptionTable.toList, False) {Xq : Nat → Nat → GT → S → Prop} {BC BS : Nat} {Q : GT → S → Prop} : ∀ (a0 : Nat) (a1 : Nat) (g : GT) (ι : S) (ad : Nat → Nat) (H : Heap) (locs : List Loc) (ls : Array Slot), P_X9_need BC BS Xq a0 a1 g ι Q → CX p s m args c meth cX9_need 2 none RX9 D dA ad A → PW D dA A s.heap ad (HS g ι) H locs → HA ad0 g0 ad g → LH ad ls 2 [(0, pX a0), (1, pX a1)] → WYv p l e ({ frames := 10, cells := BC, slots := BS, locals := 204 } : Room) s m args below meth c D dA ad0 g0 A Q Xq BC BS H locs (0) (0) (F0 m 0 ls []) := by
  intro a0 a1 g ι ad H locs ls hF X hP hag hl
  unfold P_X9_need at hF
  refine ph_aload_n (n := 0) X hl dX9_need_0 rfl rfl ?_
  refine ph_aload_n (n := 0) X hl dX9_need_1 rfl rfl ?_
  refine ph_aload_n (n := 1) X hl dX9_need_2 rfl rfl ?_
  obtain ⟨hm4, hF⟩ := hF
  refine cg_callVi 7 [pX a1] X hP hm4 (met_X9_is l D dA ad g _ _ hF) (cwV 1 X.2.2.2.2.1 (lw_V q1289 q1291 qs26 q127 q1292) rfl rfl rfl (by decide +kernel) ⟨Nat.le_of_ble_eq_true rfl, Nat.le_of_ble_eq_true rfl⟩) rfl hl (k8 := 1) (csr (cs0 (k := 0))) (by decide) ⟨Nat.zero_le _, Nat.zero_le _⟩ dX9_need_3 rfl (fun r1 ι2 H locs hF hP => ?_)
  refine lv_iconst (v := 1) X.1 X.2.1 dX9_need_6 (by decide) ?_
  obtain ⟨hx5, hF⟩ := hF
  obtain ⟨b6, d7, hF⟩ := hF
  obtain ⟨hd8, hF⟩ := hF
  have hl : LH ad ls 2 [(0, pX a0)] := lh_sub hl [0] rfl
  refine hy_callVv 7 [iX r1, iX 1] [] X hP hex hm4 (met_X9_check l D dA ad _ _ hlt _ _ _ hF) (cwV 2 X.2.2.2.2.1 (lw_V q1300 q1302 qs27 q127 q1303) rfl rfl rfl (by decide +kernel) ⟨Nat.le_of_ble_eq_true rfl, Nat.le_of_ble_eq_true rfl⟩) rfl hag hl (ltlp hx5 ltln) ltsn (k8 := 0) (cs0 (k := 0)) (by decide) hd8 hd8.1 hd8.2 dX9_need_7 rfl (fun ad g9 ι10 H locs hF X hP hag he11 hl => ?_)
  show WYv p l e ({ frames := 10, cells := BC, slots := BS, locals := 204 } : Room) s m args below meth c D dA ad0 g0 A Q Xq BC BS H locs (0 + b6) (0 + d7) (F0 m 10 ls [])
  refine ph_aload_n (n := 0) X hl dX9_need_10 rfl rfl ?_
  obtain ⟨b14, d15, hF⟩ := hF
  obtain ⟨hd16, hF⟩ := hF
  obtain ⟨hm22, hF⟩ := hF
  have hl : LH ad ls 2 [] := lh_sub hl [] rfl
  refine hg_callVv 7 [] [] X hP hm22 (met_X9_go l D dA ad _ _ _ _ _ hF) (cwV 0 X.2.2.2.2.1 (lw_V q1182 q1184 qs23 q127 q1185) rfl rfl rfl (by decide +kernel) ⟨Nat.le_of_ble_eq_true rfl, Nat.le_of_ble_eq_true rfl⟩) rfl hag hl ltln ltsn (k8 := 0) (cs0 (k := 0)) (by decide) hd16 dX9_need_11 rfl (fun ad g17 ι18 H locs hF X hP hag he19 hl => ?_)
  show WYv p l e ({ frames := 10, cells := BC, slots := BS, locals := 204 } : Room) s m args below meth c D dA ad0 g0 A Q Xq BC BS H locs (0 + b6 + b14) (0 + d7 + d15) (F0 m 14 ls [])
  exact hy_vret X hP hag hF hd16.1 hd16.2 dX9_need_14
set_option maxHeartbeats 2000000 in
theorem met_X9_need (l : Launch) (D : va_G) (dA : Nat → ClassId) (ad : Nat → Nat) (BC BS : Nat) (hlt : l.stackTraces = false) {Xq : Nat → Nat → GT → S → Prop} (g : GT) (ι : S) (sz : Nat) {a0 : Nat} {a1 : Nat} {Q : GT → S → Prop} (hF : P_X9_need BC BS Xq a0 a1 g ι Q) : CYv l yX9_need cX9_need 2 ({ frames := 10, cells := BC, slots := BS, locals := 204 } : Room) D dA ad g ι sz [pX a0, pX a1] Q Xq BC BS := by
  refine yg_enter [pX a0, pX a1] (Qc := fun A => HPv D dA ad g A Q) (XC := fun A => XHC D dA ad g A Xq) (by decide +kernel) (Nat.le_of_ble_eq_true rfl) ?_
  intro p e s m args below meth c A ls X hP hl hex
  exact we_X9_need hlt hex _ _ _ _ _ _ _ _ hF X hP HA.rf hl
def P_X9_number_49 (BC BS : Nat) (Xq : Nat → Nat → GT → S → Prop) (Q : Int32 → GT → S → Prop) (y0 : Nat) (y1 : Int32) (x0 : Nat) (g : GT) (ι : S) (uc us : Nat) : Prop := (x0 < 200 + gN g ∧ (∃ b2 d3, ((uc + b2 ≤ BC ∧ us + d3 ≤ BS) ∧ (gK g y0 = 8 ∧ (P_X9_check b2 d3 Xq y0 y1 2 g ι (fun g5 ι6 => (gK g5 x0 = 8 ∧ (∃ b11 d12, ((uc + b2 + b11 ≤ BC ∧ us + d3 + d12 ≤ BS) ∧ (P_X9_go b11 d12 x0 g5 ι6 (fun g14 ι15 => (Q (ι6 x0 4) g14 ι15))))))))))))
def P_X9_number_48 (BC BS : Nat) (Xq : Nat → Nat → GT → S → Prop) (Q : Int32 → GT → S → Prop) (y0 : Nat) (x0 : Nat) (g : GT) (ι : S) (uc us : Nat) : Prop := (P_X9_number_49 BC BS Xq Q y0 0 x0 g ι (uc) (us))
def P_X9_number_16 (BC BS : Nat) (Xq : Nat → Nat → GT → S → Prop) (Q : Int32 → GT → S → Prop) (y0 : Nat) (y1 : Int32) (x0 : Nat) (x1 : Int32) (x2 : Int32) (g : GT) (ι : S) (uc us : Nat) : Prop := (x0 < 200 + gN g ∧ (∃ b21 d22, ((uc + b21 ≤ BC ∧ us + d22 ≤ BS) ∧ (gK g y0 = 8 ∧ (P_X9_check b21 d22 Xq y0 y1 1 g ι (fun g24 ι25 => (gK g24 x0 = 8 ∧ ((¬ (ι25 x0 5) = 0 → (P_X9_number_48 BC BS Xq Q x0 x0 g24 ι25 (uc + b21) (us + d22))) ∧ ((ι25 x0 5) = 0 → (((ι25 x0 4) < x1 → (P_X9_number_48 BC BS Xq Q x0 x0 g24 ι25 (uc + b21) (us + d22))) ∧ (¬ (ι25 x0 4) < x1 → ((x2 < (ι25 x0 4) → (P_X9_number_48 BC BS Xq Q x0 x0 g24 ι25 (uc + b21) (us + d22))) ∧ (¬ x2 < (ι25 x0 4) → (P_X9_number_49 BC BS Xq Q x0 1 x0 g24 ι25 (uc + b21) (us + d22)))))))))))))))
def P_X9_number (BC BS : Nat) (Xq : Nat → Nat → GT → S → Prop) (a0 : Nat) (a1 : Int32) (a2 : Int32) (g : GT) (ι : S) (Q : Int32 → GT → S → Prop) : Prop := (gK g a0 = 8 ∧ ((100 ≤ (gR g a0 6) ∧ (gR g a0 6) < 105) ∧ ((¬ (gR g a0 6) = 101 → (P_X9_number_16 BC BS Xq Q a0 0 a0 a1 a2 g ι (0) (0))) ∧ ((gR g a0 6) = 101 → (P_X9_number_16 BC BS Xq Q a0 1 a0 a1 a2 g ι (0) (0))))))
set_option maxHeartbeats 2000000 in
theorem w_X9_number_49 (hlt : l.stackTraces = false) (hex : ∀ x ∈ c.exceptionTable.toList, False) {Xq : Nat → Nat → GT → S → Prop} {BC BS : Nat} {Q : Int32 → GT → S → Prop} : ∀ (y0 : Nat) (y1 : Int32) (x0 : Nat) (g : GT) (ι : S) (uc us : Nat) (ad : Nat → Nat) (H : Heap) (locs : List Loc) (ls : Array Slot), P_X9_number_49 BC BS Xq Q y0 y1 x0 g ι uc us → CX p s m args c meth cX9_number 4 (some .int) RX9 D dA ad A → PW D dA A s.heap ad (HS g ι) H locs → HA ad0 g0 ad g → LH ad ls 4 [(0, pX x0)] → WYi p l e ({ frames := 10, cells := BC, slots := BS, locals := 204 } : Room) s m args below meth c D dA ad0 g0 A Q Xq BC BS H locs (uc) (us) (F0 m 49 ls [.int y1, rv ad y0]) := by
  intro y0 y1 x0 g ι uc us ad H locs ls hF X hP hag hl
  unfold P_X9_number_49 at hF
  refine lv_iconst (v := 2) X.1 X.2.1 dX9_number_49 (by decide) ?_
  obtain ⟨hx1, hF⟩ := hF
  obtain ⟨b2, d3, hF⟩ := hF
  obtain ⟨hd4, hF⟩ := hF
  obtain ⟨hm19, hF⟩ := hF
  refine hy_callVv 7 [iX y1, iX 2] [] X hP hex hm19 (met_X9_check l D dA ad _ _ hlt _ _ _ hF) (cwV 2 X.2.2.2.2.1 (lw_V q1300 q1302 qs27 q127 q1303) rfl rfl rfl (by decide +kernel) ⟨Nat.le_of_ble_eq_true rfl, Nat.le_of_ble_eq_true rfl⟩) rfl hag hl (ltlp hx1 ltln) ltsn (k8 := 0) (cs0 (k := 0)) (by decide) hd4 hd4.1 hd4.2 dX9_number_50 rfl (fun ad g5 ι6 H locs hF X hP hag he7 hl => ?_)
  show WYi p l e ({ frames := 10, cells := BC, slots := BS, locals := 204 } : Room) s m args below meth c D dA ad0 g0 A Q Xq BC BS H locs (uc + b2) (us + d3) (F0 m 53 ls [])
  refine ph_aload_n (n := 0) X hl dX9_number_53 rfl rfl ?_
  obtain ⟨hm10, hF⟩ := hF
  refine cg_geti 7 4 X in_X9 hP hm10 q1253 dX9_number_54 ?_
  refine ph_istore_n X hl dX9_number_57 rfl (by decide) rfl (fun ls hl => ?_)
  refine ph_aload_n (n := 1) X hl dX9_number_58 rfl rfl ?_
  obtain ⟨b11, d12, hF⟩ := hF
  obtain ⟨hd13, hF⟩ := hF
  have hl : LH ad ls 4 [(3, iX (ι6 x0 4))] := lh_sub hl [0] rfl
  refine hg_callVv 7 [] [] X hP hm10 (met_X9_go l D dA ad _ _ _ _ _ hF) (cwV 0 X.2.2.2.2.1 (lw_V q1182 q1184 qs23 q127 q1185) rfl rfl rfl (by decide +kernel) ⟨Nat.le_of_ble_eq_true rfl, Nat.le_of_ble_eq_true rfl⟩) rfl hag hl (ltli ltln) ltsn (k8 := 0) (cs0 (k := 0)) (by decide) hd13 dX9_number_59 rfl (fun ad g14 ι15 H locs hF X hP hag he16 hl => ?_)
  show WYi p l e ({ frames := 10, cells := BC, slots := BS, locals := 204 } : Room) s m args below meth c D dA ad0 g0 A Q Xq BC BS H locs (uc + b2 + b11) (us + d3 + d12) (F0 m 62 ls [])
  refine ph_iload_n (n := 0) X hl dX9_number_62 rfl rfl ?_
  exact hy_iret X hP hag hF hd13.1 hd13.2 dX9_number_63
set_option maxHeartbeats 2000000 in
theorem w_X9_number_48 (hlt : l.stackTraces = false) (hex : ∀ x ∈ c.exceptionTable.toList, False) {Xq : Nat → Nat → GT → S → Prop} {BC BS : Nat} {Q : Int32 → GT → S → Prop} : ∀ (y0 : Nat) (x0 : Nat) (g : GT) (ι : S) (uc us : Nat) (ad : Nat → Nat) (H : Heap) (locs : List Loc) (ls : Array Slot), P_X9_number_48 BC BS Xq Q y0 x0 g ι uc us → CX p s m args c meth cX9_number 4 (some .int) RX9 D dA ad A → PW D dA A s.heap ad (HS g ι) H locs → HA ad0 g0 ad g → LH ad ls 4 [(0, pX x0)] → WYi p l e ({ frames := 10, cells := BC, slots := BS, locals := 204 } : Room) s m args below meth c D dA ad0 g0 A Q Xq BC BS H locs (uc) (us) (F0 m 48 ls [rv ad y0]) := by
  intro y0 x0 g ι uc us ad H locs ls hF X hP hag hl
  unfold P_X9_number_48 at hF
  refine lv_iconst (v := 0) X.1 X.2.1 dX9_number_48 (by decide) ?_
  exact w_X9_number_49 hlt hex _ _ _ _ _ _ _ _ _ _ _ hF X hP hag hl
set_option maxHeartbeats 2000000 in
theorem w_X9_number_16 (hlt : l.stackTraces = false) (hex : ∀ x ∈ c.exceptionTable.toList, False) {Xq : Nat → Nat → GT → S → Prop} {BC BS : Nat} {Q : Int32 → GT → S → Prop} : ∀ (y0 : Nat) (y1 : Int32) (x0 : Nat) (x1 : Int32) (x2 : Int32) (g : GT) (ι : S) (uc us : Nat) (ad : Nat → Nat) (H : Heap) (locs : List Loc) (ls : Array Slot), P_X9_number_16 BC BS Xq Q y0 y1 x0 x1 x2 g ι uc us → CX p s m args c meth cX9_number 4 (some .int) RX9 D dA ad A → PW D dA A s.heap ad (HS g ι) H locs → HA ad0 g0 ad g → LH ad ls 4 [(0, pX x0), (1, iX x1), (2, iX x2)] → WYi p l e ({ frames := 10, cells := BC, slots := BS, locals := 204 } : Room) s m args below meth c D dA ad0 g0 A Q Xq BC BS H locs (uc) (us) (F0 m 16 ls [.int y1, rv ad y0]) := by
  intro y0 y1 x0 x1 x2 g ι uc us ad H locs ls hF X hP hag hl
  unfold P_X9_number_16 at hF
  refine lv_iconst (v := 1) X.1 X.2.1 dX9_number_16 (by decide) ?_
  obtain ⟨hx20, hF⟩ := hF
  obtain ⟨b21, d22, hF⟩ := hF
  obtain ⟨hd23, hF⟩ := hF
  obtain ⟨hm33, hF⟩ := hF
  refine hy_callVv 7 [iX y1, iX 1] [] X hP hex hm33 (met_X9_check l D dA ad _ _ hlt _ _ _ hF) (cwV 2 X.2.2.2.2.1 (lw_V q1300 q1302 qs27 q127 q1303) rfl rfl rfl (by decide +kernel) ⟨Nat.le_of_ble_eq_true rfl, Nat.le_of_ble_eq_true rfl⟩) rfl hag hl (ltlp hx20 (ltli (ltli ltln))) ltsn (k8 := 0) (cs0 (k := 0)) (by decide) hd23 hd23.1 hd23.2 dX9_number_17 rfl (fun ad g24 ι25 H locs hF X hP hag he26 hl => ?_)
  show WYi p l e ({ frames := 10, cells := BC, slots := BS, locals := 204 } : Room) s m args below meth c D dA ad0 g0 A Q Xq BC BS H locs (uc + b21) (us + d22) (F0 m 20 ls [])
  refine ph_aload_n (n := 0) X hl dX9_number_20 rfl rfl ?_
  refine ph_aload_n (n := 0) X hl dX9_number_21 rfl rfl ?_
  obtain ⟨hm29, hF⟩ := hF
  refine cg_geti 7 5 X in_X9 hP hm29 q1254 dX9_number_22 ?_
  refine lv_if_ne (tgt := 48) X.1 X.2.1 dX9_number_25 (by decide) (fun c32 => ?_) (fun c32 => ?_)
  · have hF := hF.1 c32
    exact w_X9_number_48 hlt hex _ _ _ _ _ _ _ _ _ _ hF X hP hag (lh_sub hl [0] rfl)
  · have hF := hF.2 c32
    refine ph_aload_n (n := 0) X hl dX9_number_28 rfl rfl ?_
    refine cg_geti 7 4 X in_X9 hP hm29 q1253 dX9_number_29 ?_
    refine ph_iload_n (n := 1) X hl dX9_number_32 rfl rfl ?_
    refine lv_icmp_lt (tgt := 48) X.1 X.2.1 dX9_number_33 (by decide) (fun c31 => ?_) (fun c31 => ?_)
    · have hF := hF.1 c31
      exact w_X9_number_48 hlt hex _ _ _ _ _ _ _ _ _ _ hF X hP hag (lh_sub hl [0] rfl)
    · have hF := hF.2 c31
      refine ph_aload_n (n := 0) X hl dX9_number_36 rfl rfl ?_
      refine cg_geti 7 4 X in_X9 hP hm29 q1253 dX9_number_37 ?_
      refine ph_iload_n (n := 2) X hl dX9_number_40 rfl rfl ?_
      refine lv_icmp_gt (tgt := 48) X.1 X.2.1 dX9_number_41 (by decide) (fun c30 => ?_) (fun c30 => ?_)
      · have hF := hF.1 c30
        exact w_X9_number_48 hlt hex _ _ _ _ _ _ _ _ _ _ hF X hP hag (lh_sub hl [0] rfl)
      · have hF := hF.2 c30
        refine lv_iconst (v := 1) X.1 X.2.1 dX9_number_44 (by decide) ?_
        refine lv_goto (tgt := 49) X.1 X.2.1 dX9_number_45 (by decide) ?_
        exact w_X9_number_49 hlt hex _ _ _ _ _ _ _ _ _ _ _ hF X hP hag (lh_sub hl [0] rfl)
set_option maxHeartbeats 2000000 in
theorem we_X9_number (hlt : l.stackTraces = false) (hex : ∀ x ∈ c.exceptionTable.toList, False) {Xq : Nat → Nat → GT → S → Prop} {BC BS : Nat} {Q : Int32 → GT → S → Prop} : ∀ (a0 : Nat) (a1 : Int32) (a2 : Int32) (g : GT) (ι : S) (ad : Nat → Nat) (H : Heap) (locs : List Loc) (ls : Array Slot), P_X9_number BC BS Xq a0 a1 a2 g ι Q → CX p s m args c meth cX9_number 4 (some .int) RX9 D dA ad A → PW D dA A s.heap ad (HS g ι) H locs → HA ad0 g0 ad g → LH ad ls 4 [(0, pX a0), (1, iX a1), (2, iX a2)] → WYi p l e ({ frames := 10, cells := BC, slots := BS, locals := 204 } : Room) s m args below meth c D dA ad0 g0 A Q Xq BC BS H locs (0) (0) (F0 m 0 ls []) := by
  intro a0 a1 a2 g ι ad H locs ls hF X hP hag hl
  unfold P_X9_number at hF
  refine ph_aload_n (n := 0) X hl dX9_number_0 rfl rfl ?_
  refine ph_aload_n (n := 0) X hl dX9_number_1 rfl rfl ?_
  obtain ⟨hm34, hF⟩ := hF
  have hv35 := gR_lt hP a0 6
  refine cg_getr 7 6 X in_X9 hP hm34 q1255 dX9_number_2 ?_
  refine cg_getsS (k := 1) X hP (by decide) rfl q1226 dX9_number_5 ?_
  obtain ⟨hm36, hF⟩ := hF
  refine cg_acmp_ne (tgt := 15) X (by have := hm36; omega) (by have := (show 100 ≤ 101 ∧ 101 < 105 by decide); omega) (sort_inj X hm36 (show 100 ≤ 101 ∧ 101 < 105 by decide)) dX9_number_8 (by decide) (fun c37 => ?_) (fun c37 => ?_)
  · have hF := hF.1 c37
    refine lv_iconst (v := 0) X.1 X.2.1 dX9_number_15 (by decide) ?_
    exact w_X9_number_16 hlt hex _ _ _ _ _ _ _ _ _ _ _ _ _ hF X hP hag hl
  · have hF := hF.2 c37
    refine lv_iconst (v := 1) X.1 X.2.1 dX9_number_11 (by decide) ?_
    refine lv_goto (tgt := 16) X.1 X.2.1 dX9_number_12 (by decide) ?_
    exact w_X9_number_16 hlt hex _ _ _ _ _ _ _ _ _ _ _ _ _ hF X hP hag hl
set_option maxHeartbeats 2000000 in
theorem met_X9_number (l : Launch) (D : va_G) (dA : Nat → ClassId) (ad : Nat → Nat) (BC BS : Nat) (hlt : l.stackTraces = false) {Xq : Nat → Nat → GT → S → Prop} (g : GT) (ι : S) (sz : Nat) {a0 : Nat} {a1 : Int32} {a2 : Int32} {Q : Int32 → GT → S → Prop} (hF : P_X9_number BC BS Xq a0 a1 a2 g ι Q) : CYi l yX9_number cX9_number 4 .int ({ frames := 10, cells := BC, slots := BS, locals := 204 } : Room) D dA ad g ι sz [pX a0, iX a1, iX a2] Q Xq BC BS := by
  refine yg_enter [pX a0, iX a1, iX a2] (Qc := fun A => HPi D dA ad g A Q) (XC := fun A => XHC D dA ad g A Xq) (by decide +kernel) (Nat.le_of_ble_eq_true rfl) ?_
  intro p e s m args below meth c A ls X hP hl hex
  exact we_X9_number hlt hex _ _ _ _ _ _ _ _ _ hF X hP HA.rf hl
def P_X9_begins_25 (BC BS : Nat) (Xq : Nat → Nat → GT → S → Prop) (Q : Int32 → GT → S → Prop) (y0 : Nat) (y1 : Int32) (x0 : Nat) (x2 : Int32) (g : GT) (ι : S) (uc us : Nat) : Prop := (x0 < 200 + gN g ∧ (∃ b2 d3, ((uc + b2 ≤ BC ∧ us + d3 ≤ BS) ∧ (gK g y0 = 8 ∧ (P_X9_check b2 d3 Xq y0 y1 5 g ι (fun g5 ι6 => (gK g5 x0 = 8 ∧ (gK g5 (gR g5 x0 8) = 102 ∧ (vp_in x2 (gL g5 (gR g5 x0 8)) ∧ (∀ ι13, ι13 = up2 ι6 (gR g5 x0 8) x2.toNatClampNeg (vp_nar .boolean 1) → (∃ b15 d16, ((uc + b2 + b15 ≤ BC ∧ us + d3 + d16 ≤ BS) ∧ (P_X9_go b15 d16 x0 g5 ι13 (fun g18 ι19 => (Q 1 g18 ι19)))))))))))))))
def P_X9_begins (BC BS : Nat) (Xq : Nat → Nat → GT → S → Prop) (a0 : Nat) (a1 : Nat) (a2 : Int32) (g : GT) (ι : S) (Q : Int32 → GT → S → Prop) : Prop := (gK g a0 = 8 ∧ (P_X9_is g a0 a1 ι (fun r24 ι25 => ((¬ r24 = 0 → (gK g (gR g a0 8) = 102 ∧ (vp_in a2 (gL g (gR g a0 8)) ∧ ((¬ (ι25 (gR g a0 8) a2.toNatClampNeg) = 0 → (P_X9_begins_25 BC BS Xq Q a0 0 a0 a2 g ι25 (0) (0))) ∧ ((ι25 (gR g a0 8) a2.toNatClampNeg) = 0 → (P_X9_begins_25 BC BS Xq Q a0 1 a0 a2 g ι25 (0) (0))))))) ∧ (r24 = 0 → (Q 0 g ι25))))))
set_option maxHeartbeats 2000000 in
theorem w_X9_begins_25 (hlt : l.stackTraces = false) (hex : ∀ x ∈ c.exceptionTable.toList, False) {Xq : Nat → Nat → GT → S → Prop} {BC BS : Nat} {Q : Int32 → GT → S → Prop} : ∀ (y0 : Nat) (y1 : Int32) (x0 : Nat) (x2 : Int32) (g : GT) (ι : S) (uc us : Nat) (ad : Nat → Nat) (H : Heap) (locs : List Loc) (ls : Array Slot), P_X9_begins_25 BC BS Xq Q y0 y1 x0 x2 g ι uc us → CX p s m args c meth cX9_begins 3 (some .boolean) RX9 D dA ad A → PW D dA A s.heap ad (HS g ι) H locs → HA ad0 g0 ad g → LH ad ls 3 [(0, pX x0), (2, iX x2)] → WYi p l e ({ frames := 10, cells := BC, slots := BS, locals := 204 } : Room) s m args below meth c D dA ad0 g0 A Q Xq BC BS H locs (uc) (us) (F0 m 25 ls [.int y1, rv ad y0]) := by
  intro y0 y1 x0 x2 g ι uc us ad H locs ls hF X hP hag hl
  unfold P_X9_begins_25 at hF
  refine lv_iconst (v := 5) X.1 X.2.1 dX9_begins_25 (by decide) ?_
  obtain ⟨hx1, hF⟩ := hF
  obtain ⟨b2, d3, hF⟩ := hF
  obtain ⟨hd4, hF⟩ := hF
  obtain ⟨hm23, hF⟩ := hF
  refine hy_callVv 7 [iX y1, iX 5] [] X hP hex hm23 (met_X9_check l D dA ad _ _ hlt _ _ _ hF) (cwV 2 X.2.2.2.2.1 (lw_V q1300 q1302 qs27 q127 q1303) rfl rfl rfl (by decide +kernel) ⟨Nat.le_of_ble_eq_true rfl, Nat.le_of_ble_eq_true rfl⟩) rfl hag hl (ltlp hx1 (ltli ltln)) ltsn (k8 := 0) (cs0 (k := 0)) (by decide) hd4 hd4.1 hd4.2 dX9_begins_26 rfl (fun ad g5 ι6 H locs hF X hP hag he7 hl => ?_)
  show WYi p l e ({ frames := 10, cells := BC, slots := BS, locals := 204 } : Room) s m args below meth c D dA ad0 g0 A Q Xq BC BS H locs (uc + b2) (us + d3) (F0 m 29 ls [])
  refine ph_aload_n (n := 0) X hl dX9_begins_29 rfl rfl ?_
  obtain ⟨hm10, hF⟩ := hF
  have hv11 := gR_lt hP x0 8
  refine cg_getr 7 8 X in_X9 hP hm10 q1257 dX9_begins_30 ?_
  refine ph_iload_n (n := 1) X hl dX9_begins_33 rfl rfl ?_
  refine lv_iconst (v := 1) X.1 X.2.1 dX9_begins_34 (by decide) ?_
  obtain ⟨hm12, hF⟩ := hF
  obtain ⟨hr14, hF⟩ := hF
  refine cg_zast X hP hm12 hr14 (k := x2.toNatClampNeg) rfl dX9_begins_35 hF (fun H locs ι13 hP hF => ?_)
  refine ph_aload_n (n := 0) X hl dX9_begins_36 rfl rfl ?_
  obtain ⟨b15, d16, hF⟩ := hF
  obtain ⟨hd17, hF⟩ := hF
  have hl : LH ad ls 3 [] := lh_sub hl [] rfl
  refine hg_callVv 7 [] [] X hP hm10 (met_X9_go l D dA ad _ _ _ _ _ hF) (cwV 0 X.2.2.2.2.1 (lw_V q1182 q1184 qs23 q127 q1185) rfl rfl rfl (by decide +kernel) ⟨Nat.le_of_ble_eq_true rfl, Nat.le_of_ble_eq_true rfl⟩) rfl hag hl ltln ltsn (k8 := 0) (cs0 (k := 0)) (by decide) hd17 dX9_begins_37 rfl (fun ad g18 ι19 H locs hF X hP hag he20 hl => ?_)
  show WYi p l e ({ frames := 10, cells := BC, slots := BS, locals := 204 } : Room) s m args below meth c D dA ad0 g0 A Q Xq BC BS H locs (uc + b2 + b15) (us + d3 + d16) (F0 m 40 ls [])
  refine lv_iconst (v := 1) X.1 X.2.1 dX9_begins_40 (by decide) ?_
  exact hy_zret X hP hag (isB_nar isB_1) hF hd17.1 hd17.2 dX9_begins_41
set_option maxHeartbeats 2000000 in
theorem we_X9_begins (hlt : l.stackTraces = false) (hex : ∀ x ∈ c.exceptionTable.toList, False) {Xq : Nat → Nat → GT → S → Prop} {BC BS : Nat} {Q : Int32 → GT → S → Prop} : ∀ (a0 : Nat) (a1 : Nat) (a2 : Int32) (g : GT) (ι : S) (ad : Nat → Nat) (H : Heap) (locs : List Loc) (ls : Array Slot), P_X9_begins BC BS Xq a0 a1 a2 g ι Q → CX p s m args c meth cX9_begins 3 (some .boolean) RX9 D dA ad A → PW D dA A s.heap ad (HS g ι) H locs → HA ad0 g0 ad g → LH ad ls 3 [(0, pX a0), (1, pX a1), (2, iX a2)] → WYi p l e ({ frames := 10, cells := BC, slots := BS, locals := 204 } : Room) s m args below meth c D dA ad0 g0 A Q Xq BC BS H locs (0) (0) (F0 m 0 ls []) := by
  intro a0 a1 a2 g ι ad H locs ls hF X hP hag hl
  unfold P_X9_begins at hF
  refine ph_aload_n (n := 0) X hl dX9_begins_0 rfl rfl ?_
  refine ph_aload_n (n := 1) X hl dX9_begins_1 rfl rfl ?_
  obtain ⟨hm27, hF⟩ := hF
  refine cg_callVi 7 [pX a1] X hP hm27 (met_X9_is l D dA ad g _ _ hF) (cwV 1 X.2.2.2.2.1 (lw_V q1289 q1291 qs26 q127 q1292) rfl rfl rfl (by decide +kernel) ⟨Nat.le_of_ble_eq_true rfl, Nat.le_of_ble_eq_true rfl⟩) rfl hl (k8 := 0) (cs0 (k := 0)) (by decide) ⟨Nat.zero_le _, Nat.zero_le _⟩ dX9_begins_2 rfl (fun r24 ι25 H locs hF hP => ?_)
  refine lv_if_ne (tgt := 10) X.1 X.2.1 dX9_begins_5 (by decide) (fun c32 => ?_) (fun c32 => ?_)
  · have hF := hF.1 c32
    refine ph_aload_n (n := 0) X hl dX9_begins_10 rfl rfl ?_
    refine ph_aload_n (n := 0) X hl dX9_begins_11 rfl rfl ?_
    have hv28 := gR_lt hP a0 8
    refine cg_getr 7 8 X in_X9 hP hm27 q1257 dX9_begins_12 ?_
    refine ph_iload_n (n := 2) X hl dX9_begins_15 rfl rfl ?_
    obtain ⟨hm29, hF⟩ := hF
    obtain ⟨hr30, hF⟩ := hF
    refine cg_zald X hP hm29 hr30 (k := a2.toNatClampNeg) rfl dX9_begins_16 ?_
    refine lv_if_ne (tgt := 24) X.1 X.2.1 dX9_begins_17 (by decide) (fun c31 => ?_) (fun c31 => ?_)
    · have hF := hF.1 c31
      refine lv_iconst (v := 0) X.1 X.2.1 dX9_begins_24 (by decide) ?_
      exact w_X9_begins_25 hlt hex _ _ _ _ _ _ _ _ _ _ _ _ hF X hP hag (lh_sub hl [0, 2] rfl)
    · have hF := hF.2 c31
      refine lv_iconst (v := 1) X.1 X.2.1 dX9_begins_20 (by decide) ?_
      refine lv_goto (tgt := 25) X.1 X.2.1 dX9_begins_21 (by decide) ?_
      exact w_X9_begins_25 hlt hex _ _ _ _ _ _ _ _ _ _ _ _ hF X hP hag (lh_sub hl [0, 2] rfl)
  · have hF := hF.2 c32
    refine lv_iconst (v := 0) X.1 X.2.1 dX9_begins_8 (by decide) ?_
    exact hy_zret X hP hag (isB_nar isB_0) hF (Nat.zero_le _) (Nat.zero_le _) dX9_begins_9
set_option maxHeartbeats 2000000 in
theorem met_X9_begins (l : Launch) (D : va_G) (dA : Nat → ClassId) (ad : Nat → Nat) (BC BS : Nat) (hlt : l.stackTraces = false) {Xq : Nat → Nat → GT → S → Prop} (g : GT) (ι : S) (sz : Nat) {a0 : Nat} {a1 : Nat} {a2 : Int32} {Q : Int32 → GT → S → Prop} (hF : P_X9_begins BC BS Xq a0 a1 a2 g ι Q) : CYi l yX9_begins cX9_begins 3 .boolean ({ frames := 10, cells := BC, slots := BS, locals := 204 } : Room) D dA ad g ι sz [pX a0, pX a1, iX a2] Q Xq BC BS := by
  refine yg_enter [pX a0, pX a1, iX a2] (Qc := fun A => HPi D dA ad g A Q) (XC := fun A => XHC D dA ad g A Xq) (by decide +kernel) (Nat.le_of_ble_eq_true rfl) ?_
  intro p e s m args below meth c A ls X hP hl hex
  exact we_X9_begins hlt hex _ _ _ _ _ _ _ _ _ hF X hP HA.rf hl
def P_X9_numberHere_16 (BC BS : Nat) (Xq : Nat → Nat → GT → S → Prop) (Q : Int32 → GT → S → Prop) (y0 : Nat) (y1 : Int32) (x0 : Nat) (x1 : Int32) (x2 : Int32) (g : GT) (ι : S) (uc us : Nat) : Prop := (x0 < 200 + gN g ∧ (∃ b2 d3, ((uc + b2 ≤ BC ∧ us + d3 ≤ BS) ∧ (gK g y0 = 8 ∧ (P_X9_check b2 d3 Xq y0 y1 1 g ι (fun g5 ι6 => (gK g5 x0 = 8 ∧ ((¬ (ι6 x0 5) = 0 → (∃ b11 d12, ((uc + b2 + b11 ≤ BC ∧ us + d3 + d12 ≤ BS) ∧ (P_X9_check b11 d12 Xq x0 0 2 g5 ι6 (fun g14 ι15 => (gK g14 x0 = 8 ∧ (Q (ι15 x0 4) g14 ι15))))))) ∧ ((ι6 x0 5) = 0 → (((ι6 x0 4) < x1 → (∃ b20 d21, ((uc + b2 + b20 ≤ BC ∧ us + d3 + d21 ≤ BS) ∧ (P_X9_check b20 d21 Xq x0 0 2 g5 ι6 (fun g23 ι24 => (gK g23 x0 = 8 ∧ (Q (ι24 x0 4) g23 ι24))))))) ∧ (¬ (ι6 x0 4) < x1 → ((x2 < (ι6 x0 4) → (∃ b29 d30, ((uc + b2 + b29 ≤ BC ∧ us + d3 + d30 ≤ BS) ∧ (P_X9_check b29 d30 Xq x0 0 2 g5 ι6 (fun g32 ι33 => (gK g32 x0 = 8 ∧ (Q (ι33 x0 4) g32 ι33))))))) ∧ (¬ x2 < (ι6 x0 4) → (∃ b38 d39, ((uc + b2 + b38 ≤ BC ∧ us + d3 + d39 ≤ BS) ∧ (P_X9_check b38 d39 Xq x0 1 2 g5 ι6 (fun g41 ι42 => (gK g41 x0 = 8 ∧ (Q (ι42 x0 4) g41 ι42)))))))))))))))))))
def P_X9_numberHere (BC BS : Nat) (Xq : Nat → Nat → GT → S → Prop) (a0 : Nat) (a1 : Int32) (a2 : Int32) (g : GT) (ι : S) (Q : Int32 → GT → S → Prop) : Prop := (gK g a0 = 8 ∧ ((100 ≤ (gR g a0 6) ∧ (gR g a0 6) < 105) ∧ ((¬ (gR g a0 6) = 101 → (P_X9_numberHere_16 BC BS Xq Q a0 0 a0 a1 a2 g ι (0) (0))) ∧ ((gR g a0 6) = 101 → (P_X9_numberHere_16 BC BS Xq Q a0 1 a0 a1 a2 g ι (0) (0))))))
set_option maxHeartbeats 2000000 in
theorem w_X9_numberHere_16 (hlt : l.stackTraces = false) (hex : ∀ x ∈ c.exceptionTable.toList, False) {Xq : Nat → Nat → GT → S → Prop} {BC BS : Nat} {Q : Int32 → GT → S → Prop} : ∀ (y0 : Nat) (y1 : Int32) (x0 : Nat) (x1 : Int32) (x2 : Int32) (g : GT) (ι : S) (uc us : Nat) (ad : Nat → Nat) (H : Heap) (locs : List Loc) (ls : Array Slot), P_X9_numberHere_16 BC BS Xq Q y0 y1 x0 x1 x2 g ι uc us → CX p s m args c meth cX9_numberHere 3 (some .int) RX9 D dA ad A → PW D dA A s.heap ad (HS g ι) H locs → HA ad0 g0 ad g → LH ad ls 3 [(0, pX x0), (1, iX x1), (2, iX x2)] → WYi p l e ({ frames := 10, cells := BC, slots := BS, locals := 204 } : Room) s m args below meth c D dA ad0 g0 A Q Xq BC BS H locs (uc) (us) (F0 m 16 ls [.int y1, rv ad y0]) := by
  intro y0 y1 x0 x1 x2 g ι uc us ad H locs ls hF X hP hag hl
  unfold P_X9_numberHere_16 at hF
  refine lv_iconst (v := 1) X.1 X.2.1 dX9_numberHere_16 (by decide) ?_
  obtain ⟨hx1, hF⟩ := hF
  obtain ⟨b2, d3, hF⟩ := hF
  obtain ⟨hd4, hF⟩ := hF
  obtain ⟨hm50, hF⟩ := hF
  refine hy_callVv 7 [iX y1, iX 1] [] X hP hex hm50 (met_X9_check l D dA ad _ _ hlt _ _ _ hF) (cwV 2 X.2.2.2.2.1 (lw_V q1300 q1302 qs27 q127 q1303) rfl rfl rfl (by decide +kernel) ⟨Nat.le_of_ble_eq_true rfl, Nat.le_of_ble_eq_true rfl⟩) rfl hag hl (ltlp hx1 (ltli (ltli ltln))) ltsn (k8 := 0) (cs0 (k := 0)) (by decide) hd4 hd4.1 hd4.2 dX9_numberHere_17 rfl (fun ad g5 ι6 H locs hF X hP hag he7 hl => ?_)
  show WYi p l e ({ frames := 10, cells := BC, slots := BS, locals := 204 } : Room) s m args below meth c D dA ad0 g0 A Q Xq BC BS H locs (uc + b2) (us + d3) (F0 m 20 ls [])
  refine ph_aload_n (n := 0) X hl dX9_numberHere_20 rfl rfl ?_
  refine ph_aload_n (n := 0) X hl dX9_numberHere_21 rfl rfl ?_
  obtain ⟨hm10, hF⟩ := hF
  refine cg_geti 7 5 X in_X9 hP hm10 q1254 dX9_numberHere_22 ?_
  refine lv_if_ne (tgt := 48) X.1 X.2.1 dX9_numberHere_25 (by decide) (fun c49 => ?_) (fun c49 => ?_)
  · have hF := hF.1 c49
    refine lv_iconst (v := 0) X.1 X.2.1 dX9_numberHere_48 (by decide) ?_
    refine lv_iconst (v := 2) X.1 X.2.1 dX9_numberHere_49 (by decide) ?_
    obtain ⟨b11, d12, hF⟩ := hF
    obtain ⟨hd13, hF⟩ := hF
    have hl : LH ad ls 3 [(0, pX x0)] := lh_sub hl [0] rfl
    refine hy_callVv 7 [iX 0, iX 2] [] X hP hex hm10 (met_X9_check l D dA ad _ _ hlt _ _ _ hF) (cwV 2 X.2.2.2.2.1 (lw_V q1300 q1302 qs27 q127 q1303) rfl rfl rfl (by decide +kernel) ⟨Nat.le_of_ble_eq_true rfl, Nat.le_of_ble_eq_true rfl⟩) rfl hag hl (ltlp (ltm hx1 he7) ltln) ltsn (k8 := 0) (cs0 (k := 0)) (by decide) hd13 hd13.1 hd13.2 dX9_numberHere_50 rfl (fun ad g14 ι15 H locs hF X hP hag he16 hl => ?_)
    show WYi p l e ({ frames := 10, cells := BC, slots := BS, locals := 204 } : Room) s m args below meth c D dA ad0 g0 A Q Xq BC BS H locs (uc + b2 + b11) (us + d3 + d12) (F0 m 53 ls [])
    refine ph_aload_n (n := 0) X hl dX9_numberHere_53 rfl rfl ?_
    obtain ⟨hm19, hF⟩ := hF
    refine cg_geti 7 4 X in_X9 hP hm19 q1253 dX9_numberHere_54 ?_
    exact hy_iret X hP hag hF hd13.1 hd13.2 dX9_numberHere_57
  · have hF := hF.2 c49
    refine ph_aload_n (n := 0) X hl dX9_numberHere_28 rfl rfl ?_
    refine cg_geti 7 4 X in_X9 hP hm10 q1253 dX9_numberHere_29 ?_
    refine ph_iload_n (n := 1) X hl dX9_numberHere_32 rfl rfl ?_
    refine lv_icmp_lt (tgt := 48) X.1 X.2.1 dX9_numberHere_33 (by decide) (fun c48 => ?_) (fun c48 => ?_)
    · have hF := hF.1 c48
      refine lv_iconst (v := 0) X.1 X.2.1 dX9_numberHere_48 (by decide) ?_
      refine lv_iconst (v := 2) X.1 X.2.1 dX9_numberHere_49 (by decide) ?_
      obtain ⟨b20, d21, hF⟩ := hF
      obtain ⟨hd22, hF⟩ := hF
      have hl : LH ad ls 3 [(0, pX x0)] := lh_sub hl [0] rfl
      refine hy_callVv 7 [iX 0, iX 2] [] X hP hex hm10 (met_X9_check l D dA ad _ _ hlt _ _ _ hF) (cwV 2 X.2.2.2.2.1 (lw_V q1300 q1302 qs27 q127 q1303) rfl rfl rfl (by decide +kernel) ⟨Nat.le_of_ble_eq_true rfl, Nat.le_of_ble_eq_true rfl⟩) rfl hag hl (ltlp (ltm hx1 he7) ltln) ltsn (k8 := 0) (cs0 (k := 0)) (by decide) hd22 hd22.1 hd22.2 dX9_numberHere_50 rfl (fun ad g23 ι24 H locs hF X hP hag he25 hl => ?_)
      show WYi p l e ({ frames := 10, cells := BC, slots := BS, locals := 204 } : Room) s m args below meth c D dA ad0 g0 A Q Xq BC BS H locs (uc + b2 + b20) (us + d3 + d21) (F0 m 53 ls [])
      refine ph_aload_n (n := 0) X hl dX9_numberHere_53 rfl rfl ?_
      obtain ⟨hm28, hF⟩ := hF
      refine cg_geti 7 4 X in_X9 hP hm28 q1253 dX9_numberHere_54 ?_
      exact hy_iret X hP hag hF hd22.1 hd22.2 dX9_numberHere_57
    · have hF := hF.2 c48
      refine ph_aload_n (n := 0) X hl dX9_numberHere_36 rfl rfl ?_
      refine cg_geti 7 4 X in_X9 hP hm10 q1253 dX9_numberHere_37 ?_
      refine ph_iload_n (n := 2) X hl dX9_numberHere_40 rfl rfl ?_
      refine lv_icmp_gt (tgt := 48) X.1 X.2.1 dX9_numberHere_41 (by decide) (fun c47 => ?_) (fun c47 => ?_)
      · have hF := hF.1 c47
        refine lv_iconst (v := 0) X.1 X.2.1 dX9_numberHere_48 (by decide) ?_
        refine lv_iconst (v := 2) X.1 X.2.1 dX9_numberHere_49 (by decide) ?_
        obtain ⟨b29, d30, hF⟩ := hF
        obtain ⟨hd31, hF⟩ := hF
        have hl : LH ad ls 3 [(0, pX x0)] := lh_sub hl [0] rfl
        refine hy_callVv 7 [iX 0, iX 2] [] X hP hex hm10 (met_X9_check l D dA ad _ _ hlt _ _ _ hF) (cwV 2 X.2.2.2.2.1 (lw_V q1300 q1302 qs27 q127 q1303) rfl rfl rfl (by decide +kernel) ⟨Nat.le_of_ble_eq_true rfl, Nat.le_of_ble_eq_true rfl⟩) rfl hag hl (ltlp (ltm hx1 he7) ltln) ltsn (k8 := 0) (cs0 (k := 0)) (by decide) hd31 hd31.1 hd31.2 dX9_numberHere_50 rfl (fun ad g32 ι33 H locs hF X hP hag he34 hl => ?_)
        show WYi p l e ({ frames := 10, cells := BC, slots := BS, locals := 204 } : Room) s m args below meth c D dA ad0 g0 A Q Xq BC BS H locs (uc + b2 + b29) (us + d3 + d30) (F0 m 53 ls [])
        refine ph_aload_n (n := 0) X hl dX9_numberHere_53 rfl rfl ?_
        obtain ⟨hm37, hF⟩ := hF
        refine cg_geti 7 4 X in_X9 hP hm37 q1253 dX9_numberHere_54 ?_
        exact hy_iret X hP hag hF hd31.1 hd31.2 dX9_numberHere_57
      · have hF := hF.2 c47
        refine lv_iconst (v := 1) X.1 X.2.1 dX9_numberHere_44 (by decide) ?_
        refine lv_goto (tgt := 49) X.1 X.2.1 dX9_numberHere_45 (by decide) ?_
        refine lv_iconst (v := 2) X.1 X.2.1 dX9_numberHere_49 (by decide) ?_
        obtain ⟨b38, d39, hF⟩ := hF
        obtain ⟨hd40, hF⟩ := hF
        have hl : LH ad ls 3 [(0, pX x0)] := lh_sub hl [0] rfl
        refine hy_callVv 7 [iX 1, iX 2] [] X hP hex hm10 (met_X9_check l D dA ad _ _ hlt _ _ _ hF) (cwV 2 X.2.2.2.2.1 (lw_V q1300 q1302 qs27 q127 q1303) rfl rfl rfl (by decide +kernel) ⟨Nat.le_of_ble_eq_true rfl, Nat.le_of_ble_eq_true rfl⟩) rfl hag hl (ltlp (ltm hx1 he7) ltln) ltsn (k8 := 0) (cs0 (k := 0)) (by decide) hd40 hd40.1 hd40.2 dX9_numberHere_50 rfl (fun ad g41 ι42 H locs hF X hP hag he43 hl => ?_)
        show WYi p l e ({ frames := 10, cells := BC, slots := BS, locals := 204 } : Room) s m args below meth c D dA ad0 g0 A Q Xq BC BS H locs (uc + b2 + b38) (us + d3 + d39) (F0 m 53 ls [])
        refine ph_aload_n (n := 0) X hl dX9_numberHere_53 rfl rfl ?_
        obtain ⟨hm46, hF⟩ := hF
        refine cg_geti 7 4 X in_X9 hP hm46 q1253 dX9_numberHere_54 ?_
        exact hy_iret X hP hag hF hd40.1 hd40.2 dX9_numberHere_57
set_option maxHeartbeats 2000000 in
theorem we_X9_numberHere (hlt : l.stackTraces = false) (hex : ∀ x ∈ c.exceptionTable.toList, False) {Xq : Nat → Nat → GT → S → Prop} {BC BS : Nat} {Q : Int32 → GT → S → Prop} : ∀ (a0 : Nat) (a1 : Int32) (a2 : Int32) (g : GT) (ι : S) (ad : Nat → Nat) (H : Heap) (locs : List Loc) (ls : Array Slot), P_X9_numberHere BC BS Xq a0 a1 a2 g ι Q → CX p s m args c meth cX9_numberHere 3 (some .int) RX9 D dA ad A → PW D dA A s.heap ad (HS g ι) H locs → HA ad0 g0 ad g → LH ad ls 3 [(0, pX a0), (1, iX a1), (2, iX a2)] → WYi p l e ({ frames := 10, cells := BC, slots := BS, locals := 204 } : Room) s m args below meth c D dA ad0 g0 A Q Xq BC BS H locs (0) (0) (F0 m 0 ls []) := by
  intro a0 a1 a2 g ι ad H locs ls hF X hP hag hl
  unfold P_X9_numberHere at hF
  refine ph_aload_n (n := 0) X hl dX9_numberHere_0 rfl rfl ?_
  refine ph_aload_n (n := 0) X hl dX9_numberHere_1 rfl rfl ?_
  obtain ⟨hm51, hF⟩ := hF
  have hv52 := gR_lt hP a0 6
  refine cg_getr 7 6 X in_X9 hP hm51 q1255 dX9_numberHere_2 ?_
  refine cg_getsS (k := 1) X hP (by decide) rfl q1226 dX9_numberHere_5 ?_
  obtain ⟨hm53, hF⟩ := hF
  refine cg_acmp_ne (tgt := 15) X (by have := hm53; omega) (by have := (show 100 ≤ 101 ∧ 101 < 105 by decide); omega) (sort_inj X hm53 (show 100 ≤ 101 ∧ 101 < 105 by decide)) dX9_numberHere_8 (by decide) (fun c54 => ?_) (fun c54 => ?_)
  · have hF := hF.1 c54
    refine lv_iconst (v := 0) X.1 X.2.1 dX9_numberHere_15 (by decide) ?_
    exact w_X9_numberHere_16 hlt hex _ _ _ _ _ _ _ _ _ _ _ _ _ hF X hP hag hl
  · have hF := hF.2 c54
    refine lv_iconst (v := 1) X.1 X.2.1 dX9_numberHere_11 (by decide) ?_
    refine lv_goto (tgt := 16) X.1 X.2.1 dX9_numberHere_12 (by decide) ?_
    exact w_X9_numberHere_16 hlt hex _ _ _ _ _ _ _ _ _ _ _ _ _ hF X hP hag hl
set_option maxHeartbeats 2000000 in
theorem met_X9_numberHere (l : Launch) (D : va_G) (dA : Nat → ClassId) (ad : Nat → Nat) (BC BS : Nat) (hlt : l.stackTraces = false) {Xq : Nat → Nat → GT → S → Prop} (g : GT) (ι : S) (sz : Nat) {a0 : Nat} {a1 : Int32} {a2 : Int32} {Q : Int32 → GT → S → Prop} (hF : P_X9_numberHere BC BS Xq a0 a1 a2 g ι Q) : CYi l yX9_numberHere cX9_numberHere 3 .int ({ frames := 10, cells := BC, slots := BS, locals := 204 } : Room) D dA ad g ι sz [pX a0, iX a1, iX a2] Q Xq BC BS := by
  refine yg_enter [pX a0, iX a1, iX a2] (Qc := fun A => HPi D dA ad g A Q) (XC := fun A => XHC D dA ad g A Xq) (by decide +kernel) (Nat.le_of_ble_eq_true rfl) ?_
  intro p e s m args below meth c A ls X hP hl hex
  exact we_X9_numberHere hlt hex _ _ _ _ _ _ _ _ _ hF X hP HA.rf hl
def P_X9_amongHere_33 (BC BS : Nat) (Xq : Nat → Nat → GT → S → Prop) (Q : Int32 → GT → S → Prop) (y0 : Nat) (y1 : Int32) (x0 : Nat) (x1 : Int32) (g : GT) (ι : S) (uc us : Nat) : Prop := (x0 < 200 + gN g ∧ (∃ b2 d3, ((uc + b2 ≤ BC ∧ us + d3 ≤ BS) ∧ (gK g y0 = 8 ∧ (P_X9_check b2 d3 Xq y0 y1 2 g ι (fun g5 ι6 => (gK g5 x0 = 8 ∧ ((x1 ≤ (ι6 x0 4) → (∃ b11 d12, ((uc + b2 + b11 ≤ BC ∧ us + d3 + d12 ≤ BS) ∧ (P_X9_check b11 d12 Xq x0 0 3 g5 ι6 (fun g14 ι15 => (gK g14 x0 = 8 ∧ (Q (ι15 x0 4) g14 ι15))))))) ∧ (¬ x1 ≤ (ι6 x0 4) → (∃ b20 d21, ((uc + b2 + b20 ≤ BC ∧ us + d3 + d21 ≤ BS) ∧ (P_X9_check b20 d21 Xq x0 1 3 g5 ι6 (fun g23 ι24 => (gK g23 x0 = 8 ∧ (Q (ι24 x0 4) g23 ι24)))))))))))))))
def P_X9_amongHere_16 (BC BS : Nat) (Xq : Nat → Nat → GT → S → Prop) (Q : Int32 → GT → S → Prop) (y0 : Nat) (y1 : Int32) (x0 : Nat) (x1 : Int32) (g : GT) (ι : S) (uc us : Nat) : Prop := (x0 < 200 + gN g ∧ (∃ b32 d33, ((uc + b32 ≤ BC ∧ us + d33 ≤ BS) ∧ (gK g y0 = 8 ∧ (P_X9_check b32 d33 Xq y0 y1 1 g ι (fun g35 ι36 => (gK g35 x0 = 8 ∧ ((¬ (ι36 x0 5) = 0 → (P_X9_amongHere_33 BC BS Xq Q x0 0 x0 x1 g35 ι36 (uc + b32) (us + d33))) ∧ ((ι36 x0 5) = 0 → (P_X9_amongHere_33 BC BS Xq Q x0 1 x0 x1 g35 ι36 (uc + b32) (us + d33)))))))))))
def P_X9_amongHere (BC BS : Nat) (Xq : Nat → Nat → GT → S → Prop) (a0 : Nat) (a1 : Int32) (g : GT) (ι : S) (Q : Int32 → GT → S → Prop) : Prop := (gK g a0 = 8 ∧ ((100 ≤ (gR g a0 6) ∧ (gR g a0 6) < 105) ∧ ((¬ (gR g a0 6) = 101 → (P_X9_amongHere_16 BC BS Xq Q a0 0 a0 a1 g ι (0) (0))) ∧ ((gR g a0 6) = 101 → (P_X9_amongHere_16 BC BS Xq Q a0 1 a0 a1 g ι (0) (0))))))
set_option maxHeartbeats 2000000 in
theorem w_X9_amongHere_33 (hlt : l.stackTraces = false) (hex : ∀ x ∈ c.exceptionTable.toList, False) {Xq : Nat → Nat → GT → S → Prop} {BC BS : Nat} {Q : Int32 → GT → S → Prop} : ∀ (y0 : Nat) (y1 : Int32) (x0 : Nat) (x1 : Int32) (g : GT) (ι : S) (uc us : Nat) (ad : Nat → Nat) (H : Heap) (locs : List Loc) (ls : Array Slot), P_X9_amongHere_33 BC BS Xq Q y0 y1 x0 x1 g ι uc us → CX p s m args c meth cX9_amongHere 2 (some .int) RX9 D dA ad A → PW D dA A s.heap ad (HS g ι) H locs → HA ad0 g0 ad g → LH ad ls 2 [(0, pX x0), (1, iX x1)] → WYi p l e ({ frames := 10, cells := BC, slots := BS, locals := 204 } : Room) s m args below meth c D dA ad0 g0 A Q Xq BC BS H locs (uc) (us) (F0 m 33 ls [.int y1, rv ad y0]) := by
  intro y0 y1 x0 x1 g ι uc us ad H locs ls hF X hP hag hl
  unfold P_X9_amongHere_33 at hF
  refine lv_iconst (v := 2) X.1 X.2.1 dX9_amongHere_33 (by decide) ?_
  obtain ⟨hx1, hF⟩ := hF
  obtain ⟨b2, d3, hF⟩ := hF
  obtain ⟨hd4, hF⟩ := hF
  obtain ⟨hm30, hF⟩ := hF
  refine hy_callVv 7 [iX y1, iX 2] [] X hP hex hm30 (met_X9_check l D dA ad _ _ hlt _ _ _ hF) (cwV 2 X.2.2.2.2.1 (lw_V q1300 q1302 qs27 q127 q1303) rfl rfl rfl (by decide +kernel) ⟨Nat.le_of_ble_eq_true rfl, Nat.le_of_ble_eq_true rfl⟩) rfl hag hl (ltlp hx1 (ltli ltln)) ltsn (k8 := 0) (cs0 (k := 0)) (by decide) hd4 hd4.1 hd4.2 dX9_amongHere_34 rfl (fun ad g5 ι6 H locs hF X hP hag he7 hl => ?_)
  show WYi p l e ({ frames := 10, cells := BC, slots := BS, locals := 204 } : Room) s m args below meth c D dA ad0 g0 A Q Xq BC BS H locs (uc + b2) (us + d3) (F0 m 37 ls [])
  refine ph_aload_n (n := 0) X hl dX9_amongHere_37 rfl rfl ?_
  refine ph_aload_n (n := 0) X hl dX9_amongHere_38 rfl rfl ?_
  obtain ⟨hm10, hF⟩ := hF
  refine cg_geti 7 4 X in_X9 hP hm10 q1253 dX9_amongHere_39 ?_
  refine ph_iload_n (n := 1) X hl dX9_amongHere_42 rfl rfl ?_
  refine lv_icmp_ge (tgt := 50) X.1 X.2.1 dX9_amongHere_43 (by decide) (fun c29 => ?_) (fun c29 => ?_)
  · have hF := hF.1 c29
    refine lv_iconst (v := 0) X.1 X.2.1 dX9_amongHere_50 (by decide) ?_
    refine lv_iconst (v := 3) X.1 X.2.1 dX9_amongHere_51 (by decide) ?_
    obtain ⟨b11, d12, hF⟩ := hF
    obtain ⟨hd13, hF⟩ := hF
    have hl : LH ad ls 2 [(0, pX x0)] := lh_sub hl [0] rfl
    refine hy_callVv 7 [iX 0, iX 3] [] X hP hex hm10 (met_X9_check l D dA ad _ _ hlt _ _ _ hF) (cwV 2 X.2.2.2.2.1 (lw_V q1300 q1302 qs27 q127 q1303) rfl rfl rfl (by decide +kernel) ⟨Nat.le_of_ble_eq_true rfl, Nat.le_of_ble_eq_true rfl⟩) rfl hag hl (ltlp (ltm hx1 he7) ltln) ltsn (k8 := 0) (cs0 (k := 0)) (by decide) hd13 hd13.1 hd13.2 dX9_amongHere_52 rfl (fun ad g14 ι15 H locs hF X hP hag he16 hl => ?_)
    show WYi p l e ({ frames := 10, cells := BC, slots := BS, locals := 204 } : Room) s m args below meth c D dA ad0 g0 A Q Xq BC BS H locs (uc + b2 + b11) (us + d3 + d12) (F0 m 55 ls [])
    refine ph_aload_n (n := 0) X hl dX9_amongHere_55 rfl rfl ?_
    obtain ⟨hm19, hF⟩ := hF
    refine cg_geti 7 4 X in_X9 hP hm19 q1253 dX9_amongHere_56 ?_
    exact hy_iret X hP hag hF hd13.1 hd13.2 dX9_amongHere_59
  · have hF := hF.2 c29
    refine lv_iconst (v := 1) X.1 X.2.1 dX9_amongHere_46 (by decide) ?_
    refine lv_goto (tgt := 51) X.1 X.2.1 dX9_amongHere_47 (by decide) ?_
    refine lv_iconst (v := 3) X.1 X.2.1 dX9_amongHere_51 (by decide) ?_
    obtain ⟨b20, d21, hF⟩ := hF
    obtain ⟨hd22, hF⟩ := hF
    have hl : LH ad ls 2 [(0, pX x0)] := lh_sub hl [0] rfl
    refine hy_callVv 7 [iX 1, iX 3] [] X hP hex hm10 (met_X9_check l D dA ad _ _ hlt _ _ _ hF) (cwV 2 X.2.2.2.2.1 (lw_V q1300 q1302 qs27 q127 q1303) rfl rfl rfl (by decide +kernel) ⟨Nat.le_of_ble_eq_true rfl, Nat.le_of_ble_eq_true rfl⟩) rfl hag hl (ltlp (ltm hx1 he7) ltln) ltsn (k8 := 0) (cs0 (k := 0)) (by decide) hd22 hd22.1 hd22.2 dX9_amongHere_52 rfl (fun ad g23 ι24 H locs hF X hP hag he25 hl => ?_)
    show WYi p l e ({ frames := 10, cells := BC, slots := BS, locals := 204 } : Room) s m args below meth c D dA ad0 g0 A Q Xq BC BS H locs (uc + b2 + b20) (us + d3 + d21) (F0 m 55 ls [])
    refine ph_aload_n (n := 0) X hl dX9_amongHere_55 rfl rfl ?_
    obtain ⟨hm28, hF⟩ := hF
    refine cg_geti 7 4 X in_X9 hP hm28 q1253 dX9_amongHere_56 ?_
    exact hy_iret X hP hag hF hd22.1 hd22.2 dX9_amongHere_59
set_option maxHeartbeats 2000000 in
theorem w_X9_amongHere_16 (hlt : l.stackTraces = false) (hex : ∀ x ∈ c.exceptionTable.toList, False) {Xq : Nat → Nat → GT → S → Prop} {BC BS : Nat} {Q : Int32 → GT → S → Prop} : ∀ (y0 : Nat) (y1 : Int32) (x0 : Nat) (x1 : Int32) (g : GT) (ι : S) (uc us : Nat) (ad : Nat → Nat) (H : Heap) (locs : List Loc) (ls : Array Slot), P_X9_amongHere_16 BC BS Xq Q y0 y1 x0 x1 g ι uc us → CX p s m args c meth cX9_amongHere 2 (some .int) RX9 D dA ad A → PW D dA A s.heap ad (HS g ι) H locs → HA ad0 g0 ad g → LH ad ls 2 [(0, pX x0), (1, iX x1)] → WYi p l e ({ frames := 10, cells := BC, slots := BS, locals := 204 } : Room) s m args below meth c D dA ad0 g0 A Q Xq BC BS H locs (uc) (us) (F0 m 16 ls [.int y1, rv ad y0]) := by
  intro y0 y1 x0 x1 g ι uc us ad H locs ls hF X hP hag hl
  unfold P_X9_amongHere_16 at hF
  refine lv_iconst (v := 1) X.1 X.2.1 dX9_amongHere_16 (by decide) ?_
  obtain ⟨hx31, hF⟩ := hF
  obtain ⟨b32, d33, hF⟩ := hF
  obtain ⟨hd34, hF⟩ := hF
  obtain ⟨hm42, hF⟩ := hF
  refine hy_callVv 7 [iX y1, iX 1] [] X hP hex hm42 (met_X9_check l D dA ad _ _ hlt _ _ _ hF) (cwV 2 X.2.2.2.2.1 (lw_V q1300 q1302 qs27 q127 q1303) rfl rfl rfl (by decide +kernel) ⟨Nat.le_of_ble_eq_true rfl, Nat.le_of_ble_eq_true rfl⟩) rfl hag hl (ltlp hx31 (ltli ltln)) ltsn (k8 := 0) (cs0 (k := 0)) (by decide) hd34 hd34.1 hd34.2 dX9_amongHere_17 rfl (fun ad g35 ι36 H locs hF X hP hag he37 hl => ?_)
  show WYi p l e ({ frames := 10, cells := BC, slots := BS, locals := 204 } : Room) s m args below meth c D dA ad0 g0 A Q Xq BC BS H locs (uc + b32) (us + d33) (F0 m 20 ls [])
  refine ph_aload_n (n := 0) X hl dX9_amongHere_20 rfl rfl ?_
  refine ph_aload_n (n := 0) X hl dX9_amongHere_21 rfl rfl ?_
  obtain ⟨hm40, hF⟩ := hF
  refine cg_geti 7 5 X in_X9 hP hm40 q1254 dX9_amongHere_22 ?_
  refine lv_if_ne (tgt := 32) X.1 X.2.1 dX9_amongHere_25 (by decide) (fun c41 => ?_) (fun c41 => ?_)
  · have hF := hF.1 c41
    refine lv_iconst (v := 0) X.1 X.2.1 dX9_amongHere_32 (by decide) ?_
    exact w_X9_amongHere_33 hlt hex _ _ _ _ _ _ _ _ _ _ _ _ hF X hP hag hl
  · have hF := hF.2 c41
    refine lv_iconst (v := 1) X.1 X.2.1 dX9_amongHere_28 (by decide) ?_
    refine lv_goto (tgt := 33) X.1 X.2.1 dX9_amongHere_29 (by decide) ?_
    exact w_X9_amongHere_33 hlt hex _ _ _ _ _ _ _ _ _ _ _ _ hF X hP hag hl
set_option maxHeartbeats 2000000 in
theorem we_X9_amongHere (hlt : l.stackTraces = false) (hex : ∀ x ∈ c.exceptionTable.toList, False) {Xq : Nat → Nat → GT → S → Prop} {BC BS : Nat} {Q : Int32 → GT → S → Prop} : ∀ (a0 : Nat) (a1 : Int32) (g : GT) (ι : S) (ad : Nat → Nat) (H : Heap) (locs : List Loc) (ls : Array Slot), P_X9_amongHere BC BS Xq a0 a1 g ι Q → CX p s m args c meth cX9_amongHere 2 (some .int) RX9 D dA ad A → PW D dA A s.heap ad (HS g ι) H locs → HA ad0 g0 ad g → LH ad ls 2 [(0, pX a0), (1, iX a1)] → WYi p l e ({ frames := 10, cells := BC, slots := BS, locals := 204 } : Room) s m args below meth c D dA ad0 g0 A Q Xq BC BS H locs (0) (0) (F0 m 0 ls []) := by
  intro a0 a1 g ι ad H locs ls hF X hP hag hl
  unfold P_X9_amongHere at hF
  refine ph_aload_n (n := 0) X hl dX9_amongHere_0 rfl rfl ?_
  refine ph_aload_n (n := 0) X hl dX9_amongHere_1 rfl rfl ?_
  obtain ⟨hm43, hF⟩ := hF
  have hv44 := gR_lt hP a0 6
  refine cg_getr 7 6 X in_X9 hP hm43 q1255 dX9_amongHere_2 ?_
  refine cg_getsS (k := 1) X hP (by decide) rfl q1226 dX9_amongHere_5 ?_
  obtain ⟨hm45, hF⟩ := hF
  refine cg_acmp_ne (tgt := 15) X (by have := hm45; omega) (by have := (show 100 ≤ 101 ∧ 101 < 105 by decide); omega) (sort_inj X hm45 (show 100 ≤ 101 ∧ 101 < 105 by decide)) dX9_amongHere_8 (by decide) (fun c46 => ?_) (fun c46 => ?_)
  · have hF := hF.1 c46
    refine lv_iconst (v := 0) X.1 X.2.1 dX9_amongHere_15 (by decide) ?_
    exact w_X9_amongHere_16 hlt hex _ _ _ _ _ _ _ _ _ _ _ _ hF X hP hag hl
  · have hF := hF.2 c46
    refine lv_iconst (v := 1) X.1 X.2.1 dX9_amongHere_11 (by decide) ?_
    refine lv_goto (tgt := 16) X.1 X.2.1 dX9_amongHere_12 (by decide) ?_
    exact w_X9_amongHere_16 hlt hex _ _ _ _ _ _ _ _ _ _ _ _ hF X hP hag hl
set_option maxHeartbeats 2000000 in
theorem met_X9_amongHere (l : Launch) (D : va_G) (dA : Nat → ClassId) (ad : Nat → Nat) (BC BS : Nat) (hlt : l.stackTraces = false) {Xq : Nat → Nat → GT → S → Prop} (g : GT) (ι : S) (sz : Nat) {a0 : Nat} {a1 : Int32} {Q : Int32 → GT → S → Prop} (hF : P_X9_amongHere BC BS Xq a0 a1 g ι Q) : CYi l yX9_amongHere cX9_amongHere 2 .int ({ frames := 10, cells := BC, slots := BS, locals := 204 } : Room) D dA ad g ι sz [pX a0, iX a1] Q Xq BC BS := by
  refine yg_enter [pX a0, iX a1] (Qc := fun A => HPi D dA ad g A Q) (XC := fun A => XHC D dA ad g A Xq) (by decide +kernel) (Nat.le_of_ble_eq_true rfl) ?_
  intro p e s m args below meth c A ls X hP hl hex
  exact we_X9_amongHere hlt hex _ _ _ _ _ _ _ _ hF X hP HA.rf hl
def P_X9_never_52 (BC BS : Nat) (Xq : Nat → Nat → GT → S → Prop) (Q : GT → S → Prop) (y0 : Nat) (y1 : Int32) (x0 : Nat) (x1 : Nat) (x2 : Int32) (x3 : Int32) (g : GT) (ι : S) (uc us : Nat) : Prop := (x1 < 200 + gN g ∧ (x0 < 200 + gN g ∧ (∃ b3 d4, ((uc + b3 ≤ BC ∧ us + d4 ≤ BS) ∧ (gK g y0 = 8 ∧ (P_X9_check b3 d4 Xq y0 y1 4 g ι (fun g6 ι7 => (∃ b11 d12, ((uc + b3 + b11 ≤ BC ∧ us + d4 + d12 ≤ BS) ∧ (gK g6 x0 = 8 ∧ (P_X9_go b11 d12 x0 g6 ι7 (fun g14 ι15 => (gK g14 x1 = 3 ∧ (gK g14 (gR g14 x1 7) = 100 ∧ (vp_in x2 (gL g14 (gR g14 x1 7)) ∧ (vp_in x2 (gL g14 (gR g14 x1 7)) ∧ (∀ ι23, ι23 = up2 ι15 (gR g14 x1 7) x2.toNatClampNeg ((ι15 (gR g14 x1 7) x2.toNatClampNeg) ||| (1 <<< ((x3 : Int32) &&& 31))) → (vp_in x3 (gL g14 (gR g14 x1 7)) ∧ (vp_in x3 (gL g14 (gR g14 x1 7)) ∧ (∀ ι27, ι27 = up2 ι23 (gR g14 x1 7) x3.toNatClampNeg ((ι23 (gR g14 x1 7) x3.toNatClampNeg) ||| (1 <<< ((x2 : Int32) &&& 31))) → (∀ ι29, ι29 = up2 ι27 x1 5 ((ι27 x1 5) + 1) → (Q g14 ι29))))))))))))))))))))))
def P_X9_never_51 (BC BS : Nat) (Xq : Nat → Nat → GT → S → Prop) (Q : GT → S → Prop) (y0 : Nat) (x0 : Nat) (x1 : Nat) (x2 : Int32) (x3 : Int32) (g : GT) (ι : S) (uc us : Nat) : Prop := (P_X9_never_52 BC BS Xq Q y0 0 x0 x1 x2 x3 g ι (uc) (us))
def P_X9_never (BC BS : Nat) (Xq : Nat → Nat → GT → S → Prop) (a0 : Nat) (a1 : Nat) (g : GT) (ι : S) (Q : GT → S → Prop) : Prop := (gK g a1 = 3 ∧ (gK g (gR g a1 6) = 18 ∧ (P_J2_size g (gR g a1 6) ι (fun r34 ι35 => (a1 < 200 + gN g ∧ (a0 < 200 + gN g ∧ (∃ b40 d41, ((0 + b40 ≤ BC ∧ 0 + d41 ≤ BS) ∧ (gK g a0 = 8 ∧ (P_X9_amongHere b40 d41 Xq a0 r34 g ι35 (fun r46 g43 ι44 => (∃ b48 d49, ((0 + b40 + b48 ≤ BC ∧ 0 + d41 + d49 ≤ BS) ∧ (gK g43 a0 = 8 ∧ (P_X9_go b48 d49 a0 g43 ι44 (fun g51 ι52 => (gK g51 a1 = 3 ∧ (gK g51 (gR g51 a1 6) = 18 ∧ (P_J2_size g51 (gR g51 a1 6) ι52 (fun r58 ι59 => (∃ b62 d63, ((0 + b40 + b48 + b62 ≤ BC ∧ 0 + d41 + d49 + d63 ≤ BS) ∧ (gK g51 a0 = 8 ∧ (P_X9_amongHere b62 d63 Xq a0 r58 g51 ι59 (fun r68 g65 ι66 => ((r68 = r46 → (P_X9_never_51 BC BS Xq Q a0 a0 a1 r46 r68 g65 ι66 (0 + b40 + b48 + b62) (0 + d41 + d49 + d63))) ∧ (¬ r68 = r46 → (gK g65 a1 = 3 ∧ (gK g65 (gR g65 a1 7) = 100 ∧ (vp_in r46 (gL g65 (gR g65 a1 7)) ∧ ((¬ (((ι66 (gR g65 a1 7) r46.toNatClampNeg) >>> ((r68 : Int32) &&& 31)) &&& 1) = 0 → (P_X9_never_51 BC BS Xq Q a0 a0 a1 r46 r68 g65 ι66 (0 + b40 + b48 + b62) (0 + d41 + d49 + d63))) ∧ ((((ι66 (gR g65 a1 7) r46.toNatClampNeg) >>> ((r68 : Int32) &&& 31)) &&& 1) = 0 → (P_X9_never_52 BC BS Xq Q a0 1 a0 a1 r46 r68 g65 ι66 (0 + b40 + b48 + b62) (0 + d41 + d49 + d63))))))))))))))))))))))))))))))))))
set_option maxHeartbeats 2000000 in
theorem w_X9_never_52 (hlt : l.stackTraces = false) (hex : ∀ x ∈ c.exceptionTable.toList, False) {Xq : Nat → Nat → GT → S → Prop} {BC BS : Nat} {Q : GT → S → Prop} : ∀ (y0 : Nat) (y1 : Int32) (x0 : Nat) (x1 : Nat) (x2 : Int32) (x3 : Int32) (g : GT) (ι : S) (uc us : Nat) (ad : Nat → Nat) (H : Heap) (locs : List Loc) (ls : Array Slot), P_X9_never_52 BC BS Xq Q y0 y1 x0 x1 x2 x3 g ι uc us → CX p s m args c meth cX9_never 4 none RX9 D dA ad A → PW D dA A s.heap ad (HS g ι) H locs → HA ad0 g0 ad g → LH ad ls 4 [(0, pX x0), (1, pX x1), (2, iX x2), (3, iX x3)] → WYv p l e ({ frames := 11, cells := BC, slots := BS, locals := 225 } : Room) s m args below meth c D dA ad0 g0 A Q Xq BC BS H locs (uc) (us) (F0 m 52 ls [.int y1, rv ad y0]) := by
  intro y0 y1 x0 x1 x2 x3 g ι uc us ad H locs ls hF X hP hag hl
  unfold P_X9_never_52 at hF
  refine lv_iconst (v := 4) X.1 X.2.1 dX9_never_52 (by decide) ?_
  obtain ⟨hx1, hF⟩ := hF
  obtain ⟨hx2, hF⟩ := hF
  obtain ⟨b3, d4, hF⟩ := hF
  obtain ⟨hd5, hF⟩ := hF
  obtain ⟨hm31, hF⟩ := hF
  refine hy_callVv 7 [iX y1, iX 4] [] X hP hex hm31 (met_X9_check l D dA ad _ _ hlt _ _ _ hF) (cwV 2 X.2.2.2.2.1 (lw_V q1300 q1302 qs27 q127 q1303) rfl rfl rfl (by decide +kernel) ⟨Nat.le_of_ble_eq_true rfl, Nat.le_of_ble_eq_true rfl⟩) rfl hag hl (ltlp hx2 (ltlp hx1 (ltli (ltli ltln)))) ltsn (k8 := 0) (cs0 (k := 0)) (by decide) hd5 hd5.1 hd5.2 dX9_never_53 rfl (fun ad g6 ι7 H locs hF X hP hag he8 hl => ?_)
  show WYv p l e ({ frames := 11, cells := BC, slots := BS, locals := 225 } : Room) s m args below meth c D dA ad0 g0 A Q Xq BC BS H locs (uc + b3) (us + d4) (F0 m 56 ls [])
  refine ph_aload_n (n := 0) X hl dX9_never_56 rfl rfl ?_
  obtain ⟨b11, d12, hF⟩ := hF
  obtain ⟨hd13, hF⟩ := hF
  obtain ⟨hm30, hF⟩ := hF
  have hl : LH ad ls 4 [(1, pX x1), (2, iX x2), (3, iX x3)] := lh_sub hl [1, 2, 3] rfl
  refine hg_callVv 7 [] [] X hP hm30 (met_X9_go l D dA ad _ _ _ _ _ hF) (cwV 0 X.2.2.2.2.1 (lw_V q1182 q1184 qs23 q127 q1185) rfl rfl rfl (by decide +kernel) ⟨Nat.le_of_ble_eq_true rfl, Nat.le_of_ble_eq_true rfl⟩) rfl hag hl (ltlp (ltm hx1 he8) (ltli (ltli ltln))) ltsn (k8 := 0) (cs0 (k := 0)) (by decide) hd13 dX9_never_57 rfl (fun ad g14 ι15 H locs hF X hP hag he16 hl => ?_)
  show WYv p l e ({ frames := 11, cells := BC, slots := BS, locals := 225 } : Room) s m args below meth c D dA ad0 g0 A Q Xq BC BS H locs (uc + b3 + b11) (us + d4 + d12) (F0 m 60 ls [])
  refine ph_aload_n (n := 0) X hl dX9_never_60 rfl rfl ?_
  obtain ⟨hm19, hF⟩ := hF
  have hv20 := gR_lt hP x1 7
  refine cg_getrN 2 7 X in_X2 hP hm19 q542 dX9_never_61 ?_
  refine ph_iload_n (n := 1) X hl dX9_never_64 rfl rfl ?_
  refine ph_dup2_ir X dX9_never_65 ?_
  obtain ⟨hm21, hF⟩ := hF
  obtain ⟨hr22, hF⟩ := hF
  refine cg_iald X hP hm21 hr22 (k := x2.toNatClampNeg) rfl dX9_never_66 ?_
  refine lv_iconst (v := 1) X.1 X.2.1 dX9_never_67 (by decide) ?_
  refine ph_iload_n (n := 2) X hl dX9_never_68 rfl rfl ?_
  refine lv_ishl X.1 X.2.1 dX9_never_69 ?_
  refine lv_ior X.1 X.2.1 dX9_never_70 ?_
  obtain ⟨hr24, hF⟩ := hF
  refine cg_iast X hP hm21 hr24 (k := x2.toNatClampNeg) rfl dX9_never_71 hF (fun H locs ι23 hP hF => ?_)
  refine ph_aload_n (n := 0) X hl dX9_never_72 rfl rfl ?_
  have hv25 := gR_lt hP x1 7
  refine cg_getrN 2 7 X in_X2 hP hm19 q542 dX9_never_73 ?_
  refine ph_iload_n (n := 2) X hl dX9_never_76 rfl rfl ?_
  refine ph_dup2_ir X dX9_never_77 ?_
  obtain ⟨hr26, hF⟩ := hF
  refine cg_iald X hP hm21 hr26 (k := x3.toNatClampNeg) rfl dX9_never_78 ?_
  refine lv_iconst (v := 1) X.1 X.2.1 dX9_never_79 (by decide) ?_
  refine ph_iload_n (n := 1) X hl dX9_never_80 rfl rfl ?_
  refine lv_ishl X.1 X.2.1 dX9_never_81 ?_
  refine lv_ior X.1 X.2.1 dX9_never_82 ?_
  obtain ⟨hr28, hF⟩ := hF
  refine cg_iast X hP hm21 hr28 (k := x3.toNatClampNeg) rfl dX9_never_83 hF (fun H locs ι27 hP hF => ?_)
  refine ph_aload_n (n := 0) X hl dX9_never_84 rfl rfl ?_
  refine ph_dup_r X dX9_never_85 ?_
  refine cg_getiN 2 5 X in_X2 hP hm19 q534 dX9_never_86 ?_
  refine lv_iconst (v := 1) X.1 X.2.1 dX9_never_89 (by decide) ?_
  refine lv_iadd X.1 X.2.1 dX9_never_90 ?_
  refine hg_putiN 2 5 X in_X2 tyX2 tyX2_ok nmX2 hP hm19 q534 dX9_never_91 rfl rfl hF (fun H locs ι29 hP hF => ?_)
  exact hy_vret X hP hag hF hd13.1 hd13.2 dX9_never_94
set_option maxHeartbeats 2000000 in
theorem w_X9_never_51 (hlt : l.stackTraces = false) (hex : ∀ x ∈ c.exceptionTable.toList, False) {Xq : Nat → Nat → GT → S → Prop} {BC BS : Nat} {Q : GT → S → Prop} : ∀ (y0 : Nat) (x0 : Nat) (x1 : Nat) (x2 : Int32) (x3 : Int32) (g : GT) (ι : S) (uc us : Nat) (ad : Nat → Nat) (H : Heap) (locs : List Loc) (ls : Array Slot), P_X9_never_51 BC BS Xq Q y0 x0 x1 x2 x3 g ι uc us → CX p s m args c meth cX9_never 4 none RX9 D dA ad A → PW D dA A s.heap ad (HS g ι) H locs → HA ad0 g0 ad g → LH ad ls 4 [(0, pX x0), (1, pX x1), (2, iX x2), (3, iX x3)] → WYv p l e ({ frames := 11, cells := BC, slots := BS, locals := 225 } : Room) s m args below meth c D dA ad0 g0 A Q Xq BC BS H locs (uc) (us) (F0 m 51 ls [rv ad y0]) := by
  intro y0 x0 x1 x2 x3 g ι uc us ad H locs ls hF X hP hag hl
  unfold P_X9_never_51 at hF
  refine lv_iconst (v := 0) X.1 X.2.1 dX9_never_51 (by decide) ?_
  exact w_X9_never_52 hlt hex _ _ _ _ _ _ _ _ _ _ _ _ _ _ hF X hP hag hl
set_option maxHeartbeats 2000000 in
theorem we_X9_never (hlt : l.stackTraces = false) (hex : ∀ x ∈ c.exceptionTable.toList, False) {Xq : Nat → Nat → GT → S → Prop} {BC BS : Nat} {Q : GT → S → Prop} : ∀ (a0 : Nat) (a1 : Nat) (g : GT) (ι : S) (ad : Nat → Nat) (H : Heap) (locs : List Loc) (ls : Array Slot), P_X9_never BC BS Xq a0 a1 g ι Q → CX p s m args c meth cX9_never 4 none RX9 D dA ad A → PW D dA A s.heap ad (HS g ι) H locs → HA ad0 g0 ad g → LH ad ls 4 [(0, pX a0), (1, pX a1)] → WYv p l e ({ frames := 11, cells := BC, slots := BS, locals := 225 } : Room) s m args below meth c D dA ad0 g0 A Q Xq BC BS H locs (0) (0) (F0 m 0 ls []) := by
  intro a0 a1 g ι ad H locs ls hF X hP hag hl
  unfold P_X9_never at hF
  refine ph_aload_n (n := 0) X hl dX9_never_0 rfl rfl ?_
  refine ph_aload_n (n := 1) X hl dX9_never_1 rfl rfl ?_
  obtain ⟨hm32, hF⟩ := hF
  have hv33 := gR_lt hP a1 6
  refine cg_getrN 2 6 X in_X2 hP hm32 q539 dX9_never_2 ?_
  obtain ⟨hm37, hF⟩ := hF
  refine cg_callVi 17 [] X hP hm37 (met_J2_size l D dA ad g _ _ hF) (cwV 0 X.2.2.2.2.1 (lw_V q1464 q774 q775 q102 q776) rfl rfl rfl (by decide +kernel) ⟨Nat.le_of_ble_eq_true rfl, Nat.le_of_ble_eq_true rfl⟩) rfl hl (k8 := 1) (csr (cs0 (k := 0))) (by decide) ⟨Nat.zero_le _, Nat.zero_le _⟩ dX9_never_5 rfl (fun r34 ι35 H locs hF hP => ?_)
  obtain ⟨hx38, hF⟩ := hF
  obtain ⟨hx39, hF⟩ := hF
  obtain ⟨b40, d41, hF⟩ := hF
  obtain ⟨hd42, hF⟩ := hF
  obtain ⟨hm78, hF⟩ := hF
  refine hy_callVi 7 [iX r34] [] X hP hex hm78 (met_X9_amongHere l D dA ad _ _ hlt _ _ _ hF) (cwV 1 X.2.2.2.2.1 (lw_V q1465 q1467 qs38 q127 q1468) rfl rfl rfl (by decide +kernel) ⟨Nat.le_of_ble_eq_true rfl, Nat.le_of_ble_eq_true rfl⟩) rfl hag hl (ltlp hx39 (ltlp hx38 ltln)) ltsn (k8 := 0) (cs0 (k := 0)) (by decide) hd42 hd42.1 hd42.2 dX9_never_8 rfl (fun r46 ad g43 ι44 H locs hF X hP hag he45 hl => ?_)
  show WYv p l e ({ frames := 11, cells := BC, slots := BS, locals := 225 } : Room) s m args below meth c D dA ad0 g0 A Q Xq BC BS H locs (0 + b40) (0 + d41) (F0 m 11 ls [.int r46])
  refine ph_istore_n X hl dX9_never_11 rfl (by decide) rfl (fun ls hl => ?_)
  refine ph_aload_n (n := 1) X hl dX9_never_12 rfl rfl ?_
  obtain ⟨b48, d49, hF⟩ := hF
  obtain ⟨hd50, hF⟩ := hF
  obtain ⟨hm77, hF⟩ := hF
  refine hg_callVv 7 [] [] X hP hm77 (met_X9_go l D dA ad _ _ _ _ _ hF) (cwV 0 X.2.2.2.2.1 (lw_V q1182 q1184 qs23 q127 q1185) rfl rfl rfl (by decide +kernel) ⟨Nat.le_of_ble_eq_true rfl, Nat.le_of_ble_eq_true rfl⟩) rfl hag hl (ltli (ltlp (ltm hx39 he45) (ltlp (ltm hx38 he45) ltln))) ltsn (k8 := 0) (cs0 (k := 0)) (by decide) hd50 dX9_never_13 rfl (fun ad g51 ι52 H locs hF X hP hag he53 hl => ?_)
  show WYv p l e ({ frames := 11, cells := BC, slots := BS, locals := 225 } : Room) s m args below meth c D dA ad0 g0 A Q Xq BC BS H locs (0 + b40 + b48) (0 + d41 + d49) (F0 m 16 ls [])
  refine ph_aload_n (n := 1) X hl dX9_never_16 rfl rfl ?_
  refine ph_aload_n (n := 2) X hl dX9_never_17 rfl rfl ?_
  obtain ⟨hm56, hF⟩ := hF
  have hv57 := gR_lt hP a1 6
  refine cg_getrN 2 6 X in_X2 hP hm56 q539 dX9_never_18 ?_
  obtain ⟨hm61, hF⟩ := hF
  refine cg_callVi 17 [] X hP hm61 (met_J2_size l D dA ad g51 _ _ hF) (cwV 0 X.2.2.2.2.1 (lw_V q1464 q774 q775 q102 q776) rfl rfl rfl (by decide +kernel) ⟨Nat.le_of_ble_eq_true rfl, Nat.le_of_ble_eq_true rfl⟩) rfl hl (k8 := 1) (csr (cs0 (k := 0))) (by decide) hd50 dX9_never_21 rfl (fun r58 ι59 H locs hF hP => ?_)
  obtain ⟨b62, d63, hF⟩ := hF
  obtain ⟨hd64, hF⟩ := hF
  obtain ⟨hm76, hF⟩ := hF
  refine hy_callVi 7 [iX r58] [] X hP hex hm76 (met_X9_amongHere l D dA ad _ _ hlt _ _ _ hF) (cwV 1 X.2.2.2.2.1 (lw_V q1465 q1467 qs38 q127 q1468) rfl rfl rfl (by decide +kernel) ⟨Nat.le_of_ble_eq_true rfl, Nat.le_of_ble_eq_true rfl⟩) rfl hag hl (ltli (ltlp (ltm (ltm hx39 he45) he53) (ltlp (ltm (ltm hx38 he45) he53) ltln))) ltsn (k8 := 0) (cs0 (k := 0)) (by decide) hd64 hd64.1 hd64.2 dX9_never_24 rfl (fun r68 ad g65 ι66 H locs hF X hP hag he67 hl => ?_)
  show WYv p l e ({ frames := 11, cells := BC, slots := BS, locals := 225 } : Room) s m args below meth c D dA ad0 g0 A Q Xq BC BS H locs (0 + b40 + b48 + b62) (0 + d41 + d49 + d63) (F0 m 27 ls [.int r68])
  refine ph_istore_n X hl dX9_never_27 rfl (by decide) rfl (fun ls hl => ?_)
  refine ph_aload_n (n := 2) X hl dX9_never_28 rfl rfl ?_
  refine ph_iload_n (n := 0) X hl dX9_never_29 rfl rfl ?_
  refine ph_iload_n (n := 1) X hl dX9_never_30 rfl rfl ?_
  refine lv_icmp_eq (tgt := 51) X.1 X.2.1 dX9_never_31 (by decide) (fun c75 => ?_) (fun c75 => ?_)
  · have hF := hF.1 c75
    exact w_X9_never_51 hlt hex _ _ _ _ _ _ _ _ _ _ _ _ _ hF X hP hag (lh_sub hl [2, 3, 1, 0] rfl)
  · have hF := hF.2 c75
    refine ph_aload_n (n := 3) X hl dX9_never_34 rfl rfl ?_
    obtain ⟨hm70, hF⟩ := hF
    have hv71 := gR_lt hP a1 7
    refine cg_getrN 2 7 X in_X2 hP hm70 q542 dX9_never_35 ?_
    refine ph_iload_n (n := 1) X hl dX9_never_38 rfl rfl ?_
    obtain ⟨hm72, hF⟩ := hF
    obtain ⟨hr73, hF⟩ := hF
    refine cg_iald X hP hm72 hr73 (k := r46.toNatClampNeg) rfl dX9_never_39 ?_
    refine ph_iload_n (n := 0) X hl dX9_never_40 rfl rfl ?_
    refine lv_ishr X.1 X.2.1 dX9_never_41 ?_
    refine lv_iconst (v := 1) X.1 X.2.1 dX9_never_42 (by decide) ?_
    refine lv_iand X.1 X.2.1 dX9_never_43 ?_
    refine lv_if_ne (tgt := 51) X.1 X.2.1 dX9_never_44 (by decide) (fun c74 => ?_) (fun c74 => ?_)
    · have hF := hF.1 c74
      exact w_X9_never_51 hlt hex _ _ _ _ _ _ _ _ _ _ _ _ _ hF X hP hag (lh_sub hl [2, 3, 1, 0] rfl)
    · have hF := hF.2 c74
      refine lv_iconst (v := 1) X.1 X.2.1 dX9_never_47 (by decide) ?_
      refine lv_goto (tgt := 52) X.1 X.2.1 dX9_never_48 (by decide) ?_
      exact w_X9_never_52 hlt hex _ _ _ _ _ _ _ _ _ _ _ _ _ _ hF X hP hag (lh_sub hl [2, 3, 1, 0] rfl)
set_option maxHeartbeats 2000000 in
theorem met_X9_never (l : Launch) (D : va_G) (dA : Nat → ClassId) (ad : Nat → Nat) (BC BS : Nat) (hlt : l.stackTraces = false) {Xq : Nat → Nat → GT → S → Prop} (g : GT) (ι : S) (sz : Nat) {a0 : Nat} {a1 : Nat} {Q : GT → S → Prop} (hF : P_X9_never BC BS Xq a0 a1 g ι Q) : CYv l yX9_never cX9_never 4 ({ frames := 11, cells := BC, slots := BS, locals := 225 } : Room) D dA ad g ι sz [pX a0, pX a1] Q Xq BC BS := by
  refine yg_enter [pX a0, pX a1] (Qc := fun A => HPv D dA ad g A Q) (XC := fun A => XHC D dA ad g A Xq) (by decide +kernel) (Nat.le_of_ble_eq_true rfl) ?_
  intro p e s m args below meth c A ls X hP hl hex
  exact we_X9_never hlt hex _ _ _ _ _ _ _ _ hF X hP HA.rf hl
def P_X9_sleeper (BC BS : Nat) (Xq : Nat → Nat → GT → S → Prop) (a0 : Nat) (a1 : Nat) (g : GT) (ι : S) (Q : GT → S → Prop) : Prop := (gK g a0 = 8 ∧ (a1 < 200 + gN g ∧ (a0 < 200 + gN g ∧ (∃ b5 d6, ((0 + b5 ≤ BC ∧ 0 + d6 ≤ BS) ∧ (P_X9_go b5 d6 a0 g ι (fun g8 ι9 => (isStrP g8 (gR g a0 7) ∧ (P_J9_equals g8 (gR g a0 7) 19 ι9 (fun r13 ι14 => ((r13 = 0 → (∃ b16 d17, ((0 + b5 + b16 ≤ BC ∧ 0 + d6 + d17 ≤ BS) ∧ (gK g8 a0 = 8 ∧ (P_X9_number b16 d17 Xq a0 1 240 g8 ι14 (fun r22 g19 ι20 => (∃ b24 d25, ((0 + b5 + b16 + b24 ≤ BC ∧ 0 + d6 + d17 + d25 ≤ BS) ∧ (gK g19 a0 = 8 ∧ (P_X9_number b24 d25 Xq a0 1 240 g19 ι20 (fun r30 g27 ι28 => (∃ b32 d33, ((0 + b5 + b16 + b24 + b32 ≤ BC ∧ 0 + d6 + d17 + d25 + d33 ≤ BS) ∧ (gK g27 a0 = 8 ∧ (P_X9_number b32 d33 Xq a0 0 9 g27 ι28 (fun r38 g35 ι36 => (∃ b40 d41, ((0 + b5 + b16 + b24 + b32 + b40 ≤ BC ∧ 0 + d6 + d17 + d25 + d33 + d41 ≤ BS) ∧ (gK g35 a0 = 8 ∧ (P_X9_number b40 d41 Xq a0 1 9 g35 ι36 (fun r46 g43 ι44 => (∃ b48 d49, ((0 + b5 + b16 + b24 + b32 + b40 + b48 ≤ BC ∧ 0 + d6 + d17 + d25 + d33 + d41 + d49 ≤ BS) ∧ (gK g43 a0 = 8 ∧ (P_X9_number b48 d49 Xq a0 0 600 g43 ι44 (fun r54 g51 ι52 => (∃ b56 d57, ((0 + b5 + b16 + b24 + b32 + b40 + b48 + b56 ≤ BC ∧ 0 + d6 + d17 + d25 + d33 + d41 + d49 + d57 ≤ BS) ∧ (gK g51 a0 = 8 ∧ (P_X9_number b56 d57 Xq a0 0 10 g51 ι52 (fun r62 g59 ι60 => (isStrP g59 (gR g a0 7) ∧ (P_J9_equals g59 (gR g a0 7) 15 ι60 (fun r64 ι65 => ((r64 = 0 → (gK g59 a1 = 3 ∧ (P_J9_equals g59 (gR g a0 7) 17 ι65 (fun r69 ι70 => ((r69 = 0 → ((0 + b5 + b16 + b24 + b32 + b40 + b48 + b56 + 1 ≤ BC ∧ 0 + d6 + d17 + d25 + d33 + d41 + d49 + d57 + 6 ≤ BS) ∧ (∀ g72 ι73, g72 = newg g59 14 0 → ι73 = newi g59 ι70 → ((0 + b5 + b16 + b24 + b32 + b40 + b48 + b56 + 1 ≤ BC ∧ 0 + d6 + d17 + d25 + d33 + d41 + d49 + d57 + 6 ≤ BS) ∧ (P_X16_initX16 0 0 (200 + gN g59) r22 r30 r38 r46 r54 r62 g72 ι73 (fun g77 ι78 => (∃ b82 d83, ((0 + b5 + b16 + b24 + b32 + b40 + b48 + b56 + 1 + b82 ≤ BC ∧ 0 + d6 + d17 + d25 + d33 + d41 + d49 + d57 + 6 + d83 ≤ BS) ∧ (gK g77 (gR g59 a1 6) = 18 ∧ (P_J2_add b82 d83 (gR g59 a1 6) (200 + gN g59) g77 ι78 (fun r88 g85 ι86 => (Q g85 ι86)))))))))))) ∧ (¬ r69 = 0 → ((0 + b5 + b16 + b24 + b32 + b40 + b48 + b56 + 1 ≤ BC ∧ 0 + d6 + d17 + d25 + d33 + d41 + d49 + d57 + 6 ≤ BS) ∧ (∀ g92 ι93, g92 = newg g59 17 0 → ι93 = newi g59 ι70 → ((0 + b5 + b16 + b24 + b32 + b40 + b48 + b56 + 1 ≤ BC ∧ 0 + d6 + d17 + d25 + d33 + d41 + d49 + d57 + 6 ≤ BS) ∧ (P_X19_init 0 0 (200 + gN g59) r22 r30 r38 r46 r54 r62 g92 ι93 (fun g97 ι98 => (∃ b102 d103, ((0 + b5 + b16 + b24 + b32 + b40 + b48 + b56 + 1 + b102 ≤ BC ∧ 0 + d6 + d17 + d25 + d33 + d41 + d49 + d57 + 6 + d103 ≤ BS) ∧ (gK g97 (gR g59 a1 6) = 18 ∧ (P_J2_add b102 d103 (gR g59 a1 6) (200 + gN g59) g97 ι98 (fun r108 g105 ι106 => (Q g105 ι106))))))))))))))))) ∧ (¬ r64 = 0 → (gK g59 a1 = 3 ∧ ((0 + b5 + b16 + b24 + b32 + b40 + b48 + b56 + 1 ≤ BC ∧ 0 + d6 + d17 + d25 + d33 + d41 + d49 + d57 + 6 ≤ BS) ∧ (∀ g115 ι116, g115 = newg g59 15 0 → ι116 = newi g59 ι65 → ((0 + b5 + b16 + b24 + b32 + b40 + b48 + b56 + 1 ≤ BC ∧ 0 + d6 + d17 + d25 + d33 + d41 + d49 + d57 + 6 ≤ BS) ∧ (P_X17_initX17 0 0 (200 + gN g59) r22 r30 r38 r46 r54 r62 g115 ι116 (fun g120 ι121 => (∃ b125 d126, ((0 + b5 + b16 + b24 + b32 + b40 + b48 + b56 + 1 + b125 ≤ BC ∧ 0 + d6 + d17 + d25 + d33 + d41 + d49 + d57 + 6 + d126 ≤ BS) ∧ (gK g120 (gR g59 a1 6) = 18 ∧ (P_J2_add b125 d126 (gR g59 a1 6) (200 + gN g59) g120 ι121 (fun r131 g128 ι129 => (Q g128 ι129)))))))))))))))))))))))))))))))))))))))))))))))) ∧ (¬ r13 = 0 → (gK g8 a1 = 3 ∧ ((0 + b5 + 1 ≤ BC ∧ 0 + d6 + 6 ≤ BS) ∧ (∀ g144 ι145, g144 = newg g8 16 0 → ι145 = newi g8 ι14 → (∃ b148 d149, ((0 + b5 + 1 + b148 ≤ BC ∧ 0 + d6 + 6 + d149 ≤ BS) ∧ (gK g144 a0 = 8 ∧ (P_X9_number b148 d149 Xq a0 1 9 g144 ι145 (fun r154 g151 ι152 => ((0 + b5 + 1 + b148 ≤ BC ∧ 0 + d6 + 6 + d149 ≤ BS) ∧ (gK g151 (200 + gN g8) = 16 ∧ (P_X18_init 0 0 (200 + gN g8) r154 g151 ι152 (fun g157 ι158 => (∃ b162 d163, ((0 + b5 + 1 + b148 + b162 ≤ BC ∧ 0 + d6 + 6 + d149 + d163 ≤ BS) ∧ (gK g157 (gR g8 a1 6) = 18 ∧ (P_J2_add b162 d163 (gR g8 a1 6) (200 + gN g8) g157 ι158 (fun r168 g165 ι166 => (Q g165 ι166))))))))))))))))))))))))))))))
set_option maxHeartbeats 2000000 in
theorem we_X9_sleeper (hlt : l.stackTraces = false) (hex : ∀ x ∈ c.exceptionTable.toList, False) {Xq : Nat → Nat → GT → S → Prop} {BC BS : Nat} {Q : GT → S → Prop} : ∀ (a0 : Nat) (a1 : Nat) (g : GT) (ι : S) (ad : Nat → Nat) (H : Heap) (locs : List Loc) (ls : Array Slot), P_X9_sleeper BC BS Xq a0 a1 g ι Q → CX p s m args c meth cX9_sleeper 9 none RX9 D dA ad A → PW D dA A s.heap ad (HS g ι) H locs → HA ad0 g0 ad g → LH ad ls 9 [(0, pX a0), (1, pX a1)] → WYv p l e ({ frames := 11, cells := BC, slots := BS, locals := 227 } : Room) s m args below meth c D dA ad0 g0 A Q Xq BC BS H locs (0) (0) (F0 m 0 ls []) := by
  intro a0 a1 g ι ad H locs ls hF X hP hag hl
  unfold P_X9_sleeper at hF
  refine ph_aload_n (n := 0) X hl dX9_sleeper_0 rfl rfl ?_
  obtain ⟨hm1, hF⟩ := hF
  have hv2 := gR_lt hP a0 7
  refine cg_getr 7 7 X in_X9 hP hm1 q1256 dX9_sleeper_1 ?_
  refine ph_astore_n X hl dX9_sleeper_4 rfl (by decide) rfl (fun ls hl => ?_)
  refine ph_aload_n (n := 1) X hl dX9_sleeper_5 rfl rfl ?_
  obtain ⟨hx3, hF⟩ := hF
  obtain ⟨hx4, hF⟩ := hF
  obtain ⟨b5, d6, hF⟩ := hF
  obtain ⟨hd7, hF⟩ := hF
  refine hg_callVv 7 [] [] X hP hm1 (met_X9_go l D dA ad _ _ _ _ _ hF) (cwV 0 X.2.2.2.2.1 (lw_V q1182 q1184 qs23 q127 q1185) rfl rfl rfl (by decide +kernel) ⟨Nat.le_of_ble_eq_true rfl, Nat.le_of_ble_eq_true rfl⟩) rfl hag hl (ltlp hv2 (ltlp hx4 (ltlp hx3 ltln))) ltsn (k8 := 0) (cs0 (k := 0)) (by decide) hd7 dX9_sleeper_6 rfl (fun ad g8 ι9 H locs hF X hP hag he10 hl => ?_)
  show WYv p l e ({ frames := 11, cells := BC, slots := BS, locals := 227 } : Room) s m args below meth c D dA ad0 g0 A Q Xq BC BS H locs (0 + b5) (0 + d6) (F0 m 9 ls [])
  refine ph_aload_n (n := 0) X hl dX9_sleeper_9 rfl rfl ?_
  refine ph_ldcS (i := 9) (tx := "dog") X (List.mem_of_getElem? (i := 48) rfl) dX9_sleeper_10 ?_
  obtain ⟨hm15, hF⟩ := hF
  refine cg_callRi [pX 19] X hP (str_nz hP hm15) (str_recv X hP hm15) (met_J9_equals l D dA ad g8 _ _ hF) (cwV 1 X.2.2.2.2.1 (lw_V q1293 q1294 q1295 q109 q1296) rfl rfl rfl (by decide +kernel) ⟨Nat.le_of_ble_eq_true rfl, Nat.le_of_ble_eq_true rfl⟩) rfl hl (k8 := 0) (cs0 (k := 0)) (by decide) hd7 dX9_sleeper_12 rfl (fun r13 ι14 H locs hF hP => ?_)
  refine lv_if_eq (tgt := 41) X.1 X.2.1 dX9_sleeper_15 (by decide) (fun c173 => ?_) (fun c173 => ?_)
  · have hF := hF.1 c173
    refine ph_aload_n (n := 1) X hl dX9_sleeper_41 rfl rfl ?_
    refine lv_iconst (v := 1) X.1 X.2.1 dX9_sleeper_42 (by decide) ?_
    refine lv_sipush (v := 240) X.1 X.2.1 dX9_sleeper_43 (by decide) ?_
    obtain ⟨b16, d17, hF⟩ := hF
    obtain ⟨hd18, hF⟩ := hF
    obtain ⟨hm140, hF⟩ := hF
    refine hy_callVi 7 [iX 1, iX 240] [] X hP hex hm140 (met_X9_number l D dA ad _ _ hlt _ _ _ hF) (cwV 2 X.2.2.2.2.1 (lw_V q1327 q1329 qs28 q127 q1330) rfl rfl rfl (by decide +kernel) ⟨Nat.le_of_ble_eq_true rfl, Nat.le_of_ble_eq_true rfl⟩) rfl hag hl (ltlp (ltm hv2 he10) (ltlp (ltm hx4 he10) (ltlp (ltm hx3 he10) ltln))) ltsn (k8 := 0) (cs0 (k := 0)) (by decide) hd18 hd18.1 hd18.2 dX9_sleeper_46 rfl (fun r22 ad g19 ι20 H locs hF X hP hag he21 hl => ?_)
    show WYv p l e ({ frames := 11, cells := BC, slots := BS, locals := 227 } : Room) s m args below meth c D dA ad0 g0 A Q Xq BC BS H locs (0 + b5 + b16) (0 + d6 + d17) (F0 m 49 ls [.int r22])
    refine ph_istore_n X hl dX9_sleeper_49 rfl (by decide) rfl (fun ls hl => ?_)
    refine ph_aload_n (n := 2) X hl dX9_sleeper_50 rfl rfl ?_
    refine lv_iconst (v := 1) X.1 X.2.1 dX9_sleeper_51 (by decide) ?_
    refine lv_sipush (v := 240) X.1 X.2.1 dX9_sleeper_52 (by decide) ?_
    obtain ⟨b24, d25, hF⟩ := hF
    obtain ⟨hd26, hF⟩ := hF
    obtain ⟨hm139, hF⟩ := hF
    refine hy_callVi 7 [iX 1, iX 240] [] X hP hex hm139 (met_X9_number l D dA ad _ _ hlt _ _ _ hF) (cwV 2 X.2.2.2.2.1 (lw_V q1327 q1329 qs28 q127 q1330) rfl rfl rfl (by decide +kernel) ⟨Nat.le_of_ble_eq_true rfl, Nat.le_of_ble_eq_true rfl⟩) rfl hag hl (ltli (ltlp (ltm (ltm hv2 he10) he21) (ltlp (ltm (ltm hx4 he10) he21) (ltlp (ltm (ltm hx3 he10) he21) ltln)))) ltsn (k8 := 0) (cs0 (k := 0)) (by decide) hd26 hd26.1 hd26.2 dX9_sleeper_55 rfl (fun r30 ad g27 ι28 H locs hF X hP hag he29 hl => ?_)
    show WYv p l e ({ frames := 11, cells := BC, slots := BS, locals := 227 } : Room) s m args below meth c D dA ad0 g0 A Q Xq BC BS H locs (0 + b5 + b16 + b24) (0 + d6 + d17 + d25) (F0 m 58 ls [.int r30])
    refine ph_istore X hl dX9_sleeper_58 (by decide) rfl (fun ls hl => ?_)
    refine ph_aload_n (n := 3) X hl dX9_sleeper_60 rfl rfl ?_
    refine lv_iconst (v := 0) X.1 X.2.1 dX9_sleeper_61 (by decide) ?_
    refine lv_bipush (v := 9) X.1 X.2.1 dX9_sleeper_62 (by decide) ?_
    obtain ⟨b32, d33, hF⟩ := hF
    obtain ⟨hd34, hF⟩ := hF
    obtain ⟨hm138, hF⟩ := hF
    refine hy_callVi 7 [iX 0, iX 9] [] X hP hex hm138 (met_X9_number l D dA ad _ _ hlt _ _ _ hF) (cwV 2 X.2.2.2.2.1 (lw_V q1327 q1329 qs28 q127 q1330) rfl rfl rfl (by decide +kernel) ⟨Nat.le_of_ble_eq_true rfl, Nat.le_of_ble_eq_true rfl⟩) rfl hag hl (ltli (ltli (ltlp (ltm (ltm (ltm hv2 he10) he21) he29) (ltlp (ltm (ltm (ltm hx4 he10) he21) he29) (ltlp (ltm (ltm (ltm hx3 he10) he21) he29) ltln))))) ltsn (k8 := 0) (cs0 (k := 0)) (by decide) hd34 hd34.1 hd34.2 dX9_sleeper_64 rfl (fun r38 ad g35 ι36 H locs hF X hP hag he37 hl => ?_)
    show WYv p l e ({ frames := 11, cells := BC, slots := BS, locals := 227 } : Room) s m args below meth c D dA ad0 g0 A Q Xq BC BS H locs (0 + b5 + b16 + b24 + b32) (0 + d6 + d17 + d25 + d33) (F0 m 67 ls [.int r38])
    refine ph_istore X hl dX9_sleeper_67 (by decide) rfl (fun ls hl => ?_)
    refine ph_aload_n (n := 4) X hl dX9_sleeper_69 rfl rfl ?_
    refine lv_iconst (v := 1) X.1 X.2.1 dX9_sleeper_70 (by decide) ?_
    refine lv_bipush (v := 9) X.1 X.2.1 dX9_sleeper_71 (by decide) ?_
    obtain ⟨b40, d41, hF⟩ := hF
    obtain ⟨hd42, hF⟩ := hF
    obtain ⟨hm137, hF⟩ := hF
    refine hy_callVi 7 [iX 1, iX 9] [] X hP hex hm137 (met_X9_number l D dA ad _ _ hlt _ _ _ hF) (cwV 2 X.2.2.2.2.1 (lw_V q1327 q1329 qs28 q127 q1330) rfl rfl rfl (by decide +kernel) ⟨Nat.le_of_ble_eq_true rfl, Nat.le_of_ble_eq_true rfl⟩) rfl hag hl (ltli (ltli (ltli (ltlp (ltm (ltm (ltm (ltm hv2 he10) he21) he29) he37) (ltlp (ltm (ltm (ltm (ltm hx4 he10) he21) he29) he37) (ltlp (ltm (ltm (ltm (ltm hx3 he10) he21) he29) he37) ltln)))))) ltsn (k8 := 0) (cs0 (k := 0)) (by decide) hd42 hd42.1 hd42.2 dX9_sleeper_73 rfl (fun r46 ad g43 ι44 H locs hF X hP hag he45 hl => ?_)
    show WYv p l e ({ frames := 11, cells := BC, slots := BS, locals := 227 } : Room) s m args below meth c D dA ad0 g0 A Q Xq BC BS H locs (0 + b5 + b16 + b24 + b32 + b40) (0 + d6 + d17 + d25 + d33 + d41) (F0 m 76 ls [.int r46])
    refine ph_istore X hl dX9_sleeper_76 (by decide) rfl (fun ls hl => ?_)
    refine ph_aload_n (n := 5) X hl dX9_sleeper_78 rfl rfl ?_
    refine lv_iconst (v := 0) X.1 X.2.1 dX9_sleeper_79 (by decide) ?_
    refine lv_sipush (v := 600) X.1 X.2.1 dX9_sleeper_80 (by decide) ?_
    obtain ⟨b48, d49, hF⟩ := hF
    obtain ⟨hd50, hF⟩ := hF
    obtain ⟨hm136, hF⟩ := hF
    refine hy_callVi 7 [iX 0, iX 600] [] X hP hex hm136 (met_X9_number l D dA ad _ _ hlt _ _ _ hF) (cwV 2 X.2.2.2.2.1 (lw_V q1327 q1329 qs28 q127 q1330) rfl rfl rfl (by decide +kernel) ⟨Nat.le_of_ble_eq_true rfl, Nat.le_of_ble_eq_true rfl⟩) rfl hag hl (ltli (ltli (ltli (ltli (ltlp (ltm (ltm (ltm (ltm (ltm hv2 he10) he21) he29) he37) he45) (ltlp (ltm (ltm (ltm (ltm (ltm hx4 he10) he21) he29) he37) he45) (ltlp (ltm (ltm (ltm (ltm (ltm hx3 he10) he21) he29) he37) he45) ltln))))))) ltsn (k8 := 0) (cs0 (k := 0)) (by decide) hd50 hd50.1 hd50.2 dX9_sleeper_83 rfl (fun r54 ad g51 ι52 H locs hF X hP hag he53 hl => ?_)
    show WYv p l e ({ frames := 11, cells := BC, slots := BS, locals := 227 } : Room) s m args below meth c D dA ad0 g0 A Q Xq BC BS H locs (0 + b5 + b16 + b24 + b32 + b40 + b48) (0 + d6 + d17 + d25 + d33 + d41 + d49) (F0 m 86 ls [.int r54])
    refine ph_istore X hl dX9_sleeper_86 (by decide) rfl (fun ls hl => ?_)
    refine ph_aload_n (n := 6) X hl dX9_sleeper_88 rfl rfl ?_
    refine lv_iconst (v := 0) X.1 X.2.1 dX9_sleeper_89 (by decide) ?_
    refine lv_bipush (v := 10) X.1 X.2.1 dX9_sleeper_90 (by decide) ?_
    obtain ⟨b56, d57, hF⟩ := hF
    obtain ⟨hd58, hF⟩ := hF
    obtain ⟨hm135, hF⟩ := hF
    have hl : LH ad ls 9 [(7, iX r54), (6, iX r46), (5, iX r38), (4, iX r30), (3, iX r22), (2, pX (gR g a0 7)), (1, pX a1)] := lh_sub hl [0, 1, 2, 3, 4, 5, 7] rfl
    refine hy_callVi 7 [iX 0, iX 10] [] X hP hex hm135 (met_X9_number l D dA ad _ _ hlt _ _ _ hF) (cwV 2 X.2.2.2.2.1 (lw_V q1327 q1329 qs28 q127 q1330) rfl rfl rfl (by decide +kernel) ⟨Nat.le_of_ble_eq_true rfl, Nat.le_of_ble_eq_true rfl⟩) rfl hag hl (ltli (ltli (ltli (ltli (ltli (ltlp (ltm (ltm (ltm (ltm (ltm (ltm hv2 he10) he21) he29) he37) he45) he53) (ltlp (ltm (ltm (ltm (ltm (ltm (ltm hx3 he10) he21) he29) he37) he45) he53) ltln))))))) ltsn (k8 := 0) (cs0 (k := 0)) (by decide) hd58 hd58.1 hd58.2 dX9_sleeper_92 rfl (fun r62 ad g59 ι60 H locs hF X hP hag he61 hl => ?_)
    show WYv p l e ({ frames := 11, cells := BC, slots := BS, locals := 227 } : Room) s m args below meth c D dA ad0 g0 A Q Xq BC BS H locs (0 + b5 + b16 + b24 + b32 + b40 + b48 + b56) (0 + d6 + d17 + d25 + d33 + d41 + d49 + d57) (F0 m 95 ls [.int r62])
    refine ph_istore X hl dX9_sleeper_95 (by decide) rfl (fun ls hl => ?_)
    refine ph_aload_n (n := 6) X hl dX9_sleeper_97 rfl rfl ?_
    refine ph_ldcS (i := 7) (tx := "child") X (List.mem_of_getElem? (i := 46) rfl) dX9_sleeper_98 ?_
    obtain ⟨hm66, hF⟩ := hF
    refine cg_callRi [pX 15] X hP (str_nz hP hm66) (str_recv X hP hm66) (met_J9_equals l D dA ad g59 _ _ hF) (cwV 1 X.2.2.2.2.1 (lw_V q1293 q1294 q1295 q109 q1296) rfl rfl rfl (by decide +kernel) ⟨Nat.le_of_ble_eq_true rfl, Nat.le_of_ble_eq_true rfl⟩) rfl hl (k8 := 0) (cs0 (k := 0)) (by decide) hd58 dX9_sleeper_100 rfl (fun r64 ι65 H locs hF hP => ?_)
    refine lv_if_eq (tgt := 135) X.1 X.2.1 dX9_sleeper_103 (by decide) (fun c134 => ?_) (fun c134 => ?_)
    · have hF := hF.1 c134
      refine ph_aload_n (n := 7) X hl dX9_sleeper_135 rfl rfl ?_
      obtain ⟨hm67, hF⟩ := hF
      have hv68 := gR_lt hP a1 6
      refine cg_getrN 2 6 X in_X2 hP hm67 q539 dX9_sleeper_136 ?_
      refine ph_aload_n (n := 6) X hl dX9_sleeper_139 rfl rfl ?_
      refine ph_ldcS (i := 8) (tx := "snorer") X (List.mem_of_getElem? (i := 47) rfl) dX9_sleeper_140 ?_
      refine cg_callRi [pX 17] X hP (str_nz hP hm66) (str_recv X hP hm66) (met_J9_equals l D dA ad g59 _ _ hF) (cwV 1 X.2.2.2.2.1 (lw_V q1293 q1294 q1295 q109 q1296) rfl rfl rfl (by decide +kernel) ⟨Nat.le_of_ble_eq_true rfl, Nat.le_of_ble_eq_true rfl⟩) rfl hl (k8 := 1) (csr (cs0 (k := 0))) (by decide) hd58 dX9_sleeper_142 rfl (fun r69 ι70 H locs hF hP => ?_)
      refine lv_if_eq (tgt := 169) X.1 X.2.1 dX9_sleeper_145 (by decide) (fun c111 => ?_) (fun c111 => ?_)
      · have hF := hF.1 c111
        obtain ⟨hd71, hF⟩ := hF
        have hl : LH ad ls 9 [(8, iX r62), (7, iX r54), (6, iX r46), (5, iX r38), (4, iX r30), (3, iX r22)] := lh_sub hl [0, 1, 2, 3, 4, 5] rfl
        refine hg_new 13 [pX (gR g59 a1 6)] X hP hag hl (ltli (ltli (ltli (ltli (ltli (ltli ltln)))))) (ltsp hv68 ltsn) in_X16 tyX16 tyX16_ok (by decide +kernel) q1537 q1538 q135 hd71 dX9_sleeper_169 rfl hF (fun H ad g72 ι73 X hP hag he74 hk75 hl hF => ?_)
        show WYv p l e ({ frames := 11, cells := BC, slots := BS, locals := 227 } : Room) s m args below meth c D dA ad0 g0 A Q Xq BC BS H locs (0 + b5 + b16 + b24 + b32 + b40 + b48 + b56 + 1) (0 + d6 + d17 + d25 + d33 + d41 + d49 + d57 + 6) (F0 m 172 ls [rv ad (200 + gN g59), rv ad (gR g59 a1 6)])
        refine ph_dup_r X dX9_sleeper_172 ?_
        refine ph_iload_n (n := 5) X hl dX9_sleeper_173 rfl rfl ?_
        refine ph_iload (n := 4) X hl dX9_sleeper_174 rfl ?_
        refine ph_iload (n := 3) X hl dX9_sleeper_176 rfl ?_
        refine ph_iload (n := 2) X hl dX9_sleeper_178 rfl ?_
        refine ph_iload (n := 1) X hl dX9_sleeper_180 rfl ?_
        refine ph_iload (n := 0) X hl dX9_sleeper_182 rfl ?_
        obtain ⟨hd76, hF⟩ := hF
        have hl : LH ad ls 9 [] := lh_sub hl [] rfl
        refine hg_callI [iX r22, iX r30, iX r38, iX r46, iX r54, iX r62] [pX (200 + gN g59), pX (gR g59 a1 6)] X hP (cg_nz hP hk75.1 (by decide)) (met_X16_initX16 l D dA ad _ _ _ _ _ hF) (cwI 6 X.2.2.2.2.1 (lw_meth q1487) rfl rfl rfl (X.2.2.2.2.1 _ q135) (X.2.2.2.2.1 _ q1539) (X.2.2.2.2.1 _ q1486) rfl (by decide +kernel) ⟨Nat.le_of_ble_eq_true rfl, Nat.le_of_ble_eq_true rfl⟩) rfl hag hl ltln (ltsp (ltw he74) (ltsp (ltm hv68 (Nat.le_of_succ_le he74)) ltsn)) (k8 := 2) (csr (csr (cs0 (k := 0)))) (by decide) hd76 dX9_sleeper_184 rfl (fun ad g77 ι78 H locs hF X hP hag he79 hl => ?_)
        show WYv p l e ({ frames := 11, cells := BC, slots := BS, locals := 227 } : Room) s m args below meth c D dA ad0 g0 A Q Xq BC BS H locs (0 + b5 + b16 + b24 + b32 + b40 + b48 + b56 + 1) (0 + d6 + d17 + d25 + d33 + d41 + d49 + d57 + 6) (F0 m 187 ls [rv ad (200 + gN g59), rv ad (gR g59 a1 6)])
        obtain ⟨b82, d83, hF⟩ := hF
        obtain ⟨hd84, hF⟩ := hF
        obtain ⟨hm90, hF⟩ := hF
        refine hg_callVi 17 [pX (200 + gN g59)] [] X hP hm90 (met_J2_add l D dA ad _ _ _ _ _ hF) (cwV 1 X.2.2.2.2.1 (lw_V q1515 q621 q622 q102 q623) rfl rfl rfl (by decide +kernel) ⟨Nat.le_of_ble_eq_true rfl, Nat.le_of_ble_eq_true rfl⟩) rfl hag hl ltln ltsn (k8 := 0) (cs0 (k := 0)) (by decide) hd84 dX9_sleeper_187 rfl (fun r88 ad g85 ι86 H locs hF X hP hag he87 hl => ?_)
        show WYv p l e ({ frames := 11, cells := BC, slots := BS, locals := 227 } : Room) s m args below meth c D dA ad0 g0 A Q Xq BC BS H locs (0 + b5 + b16 + b24 + b32 + b40 + b48 + b56 + 1 + b82) (0 + d6 + d17 + d25 + d33 + d41 + d49 + d57 + 6 + d83) (F0 m 190 ls [.int r88])
        refine lv_pop X.1 X.2.1 dX9_sleeper_190 rfl ?_
        exact hy_vret X hP hag hF hd84.1 hd84.2 dX9_sleeper_191
      · have hF := hF.2 c111
        obtain ⟨hd91, hF⟩ := hF
        have hl : LH ad ls 9 [(8, iX r62), (7, iX r54), (6, iX r46), (5, iX r38), (4, iX r30), (3, iX r22)] := lh_sub hl [0, 1, 2, 3, 4, 5] rfl
        refine hg_new 16 [pX (gR g59 a1 6)] X hP hag hl (ltli (ltli (ltli (ltli (ltli (ltli ltln)))))) (ltsp hv68 ltsn) in_X19 tyX19 tyX19_ok (by decide +kernel) q1525 q1526 q138 hd91 dX9_sleeper_148 rfl hF (fun H ad g92 ι93 X hP hag he94 hk95 hl hF => ?_)
        show WYv p l e ({ frames := 11, cells := BC, slots := BS, locals := 227 } : Room) s m args below meth c D dA ad0 g0 A Q Xq BC BS H locs (0 + b5 + b16 + b24 + b32 + b40 + b48 + b56 + 1) (0 + d6 + d17 + d25 + d33 + d41 + d49 + d57 + 6) (F0 m 151 ls [rv ad (200 + gN g59), rv ad (gR g59 a1 6)])
        refine ph_dup_r X dX9_sleeper_151 ?_
        refine ph_iload_n (n := 5) X hl dX9_sleeper_152 rfl rfl ?_
        refine ph_iload (n := 4) X hl dX9_sleeper_153 rfl ?_
        refine ph_iload (n := 3) X hl dX9_sleeper_155 rfl ?_
        refine ph_iload (n := 2) X hl dX9_sleeper_157 rfl ?_
        refine ph_iload (n := 1) X hl dX9_sleeper_159 rfl ?_
        refine ph_iload (n := 0) X hl dX9_sleeper_161 rfl ?_
        obtain ⟨hd96, hF⟩ := hF
        have hl : LH ad ls 9 [] := lh_sub hl [] rfl
        refine hg_callI [iX r22, iX r30, iX r38, iX r46, iX r54, iX r62] [pX (200 + gN g59), pX (gR g59 a1 6)] X hP (cg_nz hP hk95.1 (by decide)) (met_X19_init l D dA ad _ _ _ _ _ hF) (cwI 6 X.2.2.2.2.1 (lw_meth q1529) rfl rfl rfl (X.2.2.2.2.1 _ q138) (X.2.2.2.2.1 _ q1527) (X.2.2.2.2.1 _ q1528) rfl (by decide +kernel) ⟨Nat.le_of_ble_eq_true rfl, Nat.le_of_ble_eq_true rfl⟩) rfl hag hl ltln (ltsp (ltw he94) (ltsp (ltm hv68 (Nat.le_of_succ_le he94)) ltsn)) (k8 := 2) (csr (csr (cs0 (k := 0)))) (by decide) hd96 dX9_sleeper_163 rfl (fun ad g97 ι98 H locs hF X hP hag he99 hl => ?_)
        show WYv p l e ({ frames := 11, cells := BC, slots := BS, locals := 227 } : Room) s m args below meth c D dA ad0 g0 A Q Xq BC BS H locs (0 + b5 + b16 + b24 + b32 + b40 + b48 + b56 + 1) (0 + d6 + d17 + d25 + d33 + d41 + d49 + d57 + 6) (F0 m 166 ls [rv ad (200 + gN g59), rv ad (gR g59 a1 6)])
        refine lv_goto (tgt := 187) X.1 X.2.1 dX9_sleeper_166 (by decide) ?_
        obtain ⟨b102, d103, hF⟩ := hF
        obtain ⟨hd104, hF⟩ := hF
        obtain ⟨hm110, hF⟩ := hF
        refine hg_callVi 17 [pX (200 + gN g59)] [] X hP hm110 (met_J2_add l D dA ad _ _ _ _ _ hF) (cwV 1 X.2.2.2.2.1 (lw_V q1515 q621 q622 q102 q623) rfl rfl rfl (by decide +kernel) ⟨Nat.le_of_ble_eq_true rfl, Nat.le_of_ble_eq_true rfl⟩) rfl hag hl ltln ltsn (k8 := 0) (cs0 (k := 0)) (by decide) hd104 dX9_sleeper_187 rfl (fun r108 ad g105 ι106 H locs hF X hP hag he107 hl => ?_)
        show WYv p l e ({ frames := 11, cells := BC, slots := BS, locals := 227 } : Room) s m args below meth c D dA ad0 g0 A Q Xq BC BS H locs (0 + b5 + b16 + b24 + b32 + b40 + b48 + b56 + 1 + b102) (0 + d6 + d17 + d25 + d33 + d41 + d49 + d57 + 6 + d103) (F0 m 190 ls [.int r108])
        refine lv_pop X.1 X.2.1 dX9_sleeper_190 rfl ?_
        exact hy_vret X hP hag hF hd104.1 hd104.2 dX9_sleeper_191
    · have hF := hF.2 c134
      refine ph_aload_n (n := 7) X hl dX9_sleeper_106 rfl rfl ?_
      obtain ⟨hm112, hF⟩ := hF
      have hv113 := gR_lt hP a1 6
      refine cg_getrN 2 6 X in_X2 hP hm112 q539 dX9_sleeper_107 ?_
      obtain ⟨hd114, hF⟩ := hF
      have hl : LH ad ls 9 [(8, iX r62), (7, iX r54), (6, iX r46), (5, iX r38), (4, iX r30), (3, iX r22)] := lh_sub hl [0, 1, 2, 3, 4, 5] rfl
      refine hg_new 14 [pX (gR g59 a1 6)] X hP hag hl (ltli (ltli (ltli (ltli (ltli (ltli ltln)))))) (ltsp hv113 ltsn) in_X17 tyX17 tyX17_ok (by decide +kernel) q1516 q1517 q136 hd114 dX9_sleeper_110 rfl hF (fun H ad g115 ι116 X hP hag he117 hk118 hl hF => ?_)
      show WYv p l e ({ frames := 11, cells := BC, slots := BS, locals := 227 } : Room) s m args below meth c D dA ad0 g0 A Q Xq BC BS H locs (0 + b5 + b16 + b24 + b32 + b40 + b48 + b56 + 1) (0 + d6 + d17 + d25 + d33 + d41 + d49 + d57 + 6) (F0 m 113 ls [rv ad (200 + gN g59), rv ad (gR g59 a1 6)])
      refine ph_dup_r X dX9_sleeper_113 ?_
      refine ph_iload_n (n := 5) X hl dX9_sleeper_114 rfl rfl ?_
      refine ph_iload (n := 4) X hl dX9_sleeper_115 rfl ?_
      refine ph_iload (n := 3) X hl dX9_sleeper_117 rfl ?_
      refine ph_iload (n := 2) X hl dX9_sleeper_119 rfl ?_
      refine ph_iload (n := 1) X hl dX9_sleeper_121 rfl ?_
      refine ph_iload (n := 0) X hl dX9_sleeper_123 rfl ?_
      obtain ⟨hd119, hF⟩ := hF
      have hl : LH ad ls 9 [] := lh_sub hl [] rfl
      refine hg_callI [iX r22, iX r30, iX r38, iX r46, iX r54, iX r62] [pX (200 + gN g59), pX (gR g59 a1 6)] X hP (cg_nz hP hk118.1 (by decide)) (met_X17_initX17 l D dA ad _ _ _ _ _ hF) (cwI 6 X.2.2.2.2.1 (lw_meth q1484) rfl rfl rfl (X.2.2.2.2.1 _ q136) (X.2.2.2.2.1 _ q1518) (X.2.2.2.2.1 _ q1483) rfl (by decide +kernel) ⟨Nat.le_of_ble_eq_true rfl, Nat.le_of_ble_eq_true rfl⟩) rfl hag hl ltln (ltsp (ltw he117) (ltsp (ltm hv113 (Nat.le_of_succ_le he117)) ltsn)) (k8 := 2) (csr (csr (cs0 (k := 0)))) (by decide) hd119 dX9_sleeper_125 rfl (fun ad g120 ι121 H locs hF X hP hag he122 hl => ?_)
      show WYv p l e ({ frames := 11, cells := BC, slots := BS, locals := 227 } : Room) s m args below meth c D dA ad0 g0 A Q Xq BC BS H locs (0 + b5 + b16 + b24 + b32 + b40 + b48 + b56 + 1) (0 + d6 + d17 + d25 + d33 + d41 + d49 + d57 + 6) (F0 m 128 ls [rv ad (200 + gN g59), rv ad (gR g59 a1 6)])
      obtain ⟨b125, d126, hF⟩ := hF
      obtain ⟨hd127, hF⟩ := hF
      obtain ⟨hm133, hF⟩ := hF
      refine hg_callVi 17 [pX (200 + gN g59)] [] X hP hm133 (met_J2_add l D dA ad _ _ _ _ _ hF) (cwV 1 X.2.2.2.2.1 (lw_V q1515 q621 q622 q102 q623) rfl rfl rfl (by decide +kernel) ⟨Nat.le_of_ble_eq_true rfl, Nat.le_of_ble_eq_true rfl⟩) rfl hag hl ltln ltsn (k8 := 0) (cs0 (k := 0)) (by decide) hd127 dX9_sleeper_128 rfl (fun r131 ad g128 ι129 H locs hF X hP hag he130 hl => ?_)
      show WYv p l e ({ frames := 11, cells := BC, slots := BS, locals := 227 } : Room) s m args below meth c D dA ad0 g0 A Q Xq BC BS H locs (0 + b5 + b16 + b24 + b32 + b40 + b48 + b56 + 1 + b125) (0 + d6 + d17 + d25 + d33 + d41 + d49 + d57 + 6 + d126) (F0 m 131 ls [.int r131])
      refine lv_pop X.1 X.2.1 dX9_sleeper_131 rfl ?_
      refine lv_goto (tgt := 191) X.1 X.2.1 dX9_sleeper_132 (by decide) ?_
      exact hy_vret X hP hag hF hd127.1 hd127.2 dX9_sleeper_191
  · have hF := hF.2 c173
    refine ph_aload_n (n := 2) X hl dX9_sleeper_18 rfl rfl ?_
    obtain ⟨hm141, hF⟩ := hF
    have hv142 := gR_lt hP a1 6
    refine cg_getrN 2 6 X in_X2 hP hm141 q539 dX9_sleeper_19 ?_
    obtain ⟨hd143, hF⟩ := hF
    have hl : LH ad ls 9 [(0, pX a0)] := lh_sub hl [1] rfl
    refine hg_new 15 [pX (gR g8 a1 6)] X hP hag hl (ltlp (ltm hx4 he10) ltln) (ltsp hv142 ltsn) in_X18 tyX18 tyX18_ok (by decide +kernel) q1477 q1478 q137 hd143 dX9_sleeper_22 rfl hF (fun H ad g144 ι145 X hP hag he146 hk147 hl hF => ?_)
    show WYv p l e ({ frames := 11, cells := BC, slots := BS, locals := 227 } : Room) s m args below meth c D dA ad0 g0 A Q Xq BC BS H locs (0 + b5 + 1) (0 + d6 + 6) (F0 m 25 ls [rv ad (200 + gN g8), rv ad (gR g8 a1 6)])
    refine ph_dup_r X dX9_sleeper_25 ?_
    refine ph_aload_n (n := 0) X hl dX9_sleeper_26 rfl rfl ?_
    refine lv_iconst (v := 1) X.1 X.2.1 dX9_sleeper_27 (by decide) ?_
    refine lv_bipush (v := 9) X.1 X.2.1 dX9_sleeper_28 (by decide) ?_
    obtain ⟨b148, d149, hF⟩ := hF
    obtain ⟨hd150, hF⟩ := hF
    obtain ⟨hm172, hF⟩ := hF
    have hl : LH ad ls 9 [] := lh_sub hl [] rfl
    refine hy_callVi 7 [iX 1, iX 9] [pX (200 + gN g8), pX (200 + gN g8), pX (gR g8 a1 6)] X hP hex hm172 (met_X9_number l D dA ad _ _ hlt _ _ _ hF) (cwV 2 X.2.2.2.2.1 (lw_V q1327 q1329 qs28 q127 q1330) rfl rfl rfl (by decide +kernel) ⟨Nat.le_of_ble_eq_true rfl, Nat.le_of_ble_eq_true rfl⟩) rfl hag hl ltln (ltsp (ltw he146) (ltsp (ltw he146) (ltsp (ltm hv142 (Nat.le_of_succ_le he146)) ltsn))) (k8 := 3) (csr (csr (csr (cs0 (k := 0))))) (by decide) hd150 hd150.1 hd150.2 dX9_sleeper_30 rfl (fun r154 ad g151 ι152 H locs hF X hP hag he153 hl => ?_)
    show WYv p l e ({ frames := 11, cells := BC, slots := BS, locals := 227 } : Room) s m args below meth c D dA ad0 g0 A Q Xq BC BS H locs (0 + b5 + 1 + b148) (0 + d6 + 6 + d149) (F0 m 33 ls [.int r154, rv ad (200 + gN g8), rv ad (200 + gN g8), rv ad (gR g8 a1 6)])
    obtain ⟨hd156, hF⟩ := hF
    obtain ⟨hm171, hF⟩ := hF
    refine hg_callI [iX r154] [pX (200 + gN g8), pX (gR g8 a1 6)] X hP (cg_nz hP hm171 (by decide)) (met_X18_init l D dA ad _ _ _ _ _ hF) (cwI 1 X.2.2.2.2.1 (lw_meth q1481) rfl rfl rfl (X.2.2.2.2.1 _ q137) (X.2.2.2.2.1 _ q1479) (X.2.2.2.2.1 _ q1480) rfl (by decide +kernel) ⟨Nat.le_of_ble_eq_true rfl, Nat.le_of_ble_eq_true rfl⟩) rfl hag hl ltln (ltsp (ltm (ltw he146) he153) (ltsp (ltm (ltm hv142 (Nat.le_of_succ_le he146)) he153) ltsn)) (k8 := 2) (csr (csr (cs0 (k := 0)))) (by decide) hd156 dX9_sleeper_33 rfl (fun ad g157 ι158 H locs hF X hP hag he159 hl => ?_)
    show WYv p l e ({ frames := 11, cells := BC, slots := BS, locals := 227 } : Room) s m args below meth c D dA ad0 g0 A Q Xq BC BS H locs (0 + b5 + 1 + b148) (0 + d6 + 6 + d149) (F0 m 36 ls [rv ad (200 + gN g8), rv ad (gR g8 a1 6)])
    obtain ⟨b162, d163, hF⟩ := hF
    obtain ⟨hd164, hF⟩ := hF
    obtain ⟨hm170, hF⟩ := hF
    refine hg_callVi 17 [pX (200 + gN g8)] [] X hP hm170 (met_J2_add l D dA ad _ _ _ _ _ hF) (cwV 1 X.2.2.2.2.1 (lw_V q1515 q621 q622 q102 q623) rfl rfl rfl (by decide +kernel) ⟨Nat.le_of_ble_eq_true rfl, Nat.le_of_ble_eq_true rfl⟩) rfl hag hl ltln ltsn (k8 := 0) (cs0 (k := 0)) (by decide) hd164 dX9_sleeper_36 rfl (fun r168 ad g165 ι166 H locs hF X hP hag he167 hl => ?_)
    show WYv p l e ({ frames := 11, cells := BC, slots := BS, locals := 227 } : Room) s m args below meth c D dA ad0 g0 A Q Xq BC BS H locs (0 + b5 + 1 + b148 + b162) (0 + d6 + 6 + d149 + d163) (F0 m 39 ls [.int r168])
    refine lv_pop X.1 X.2.1 dX9_sleeper_39 rfl ?_
    exact hy_vret X hP hag hF hd164.1 hd164.2 dX9_sleeper_40
set_option maxHeartbeats 2000000 in
theorem met_X9_sleeper (l : Launch) (D : va_G) (dA : Nat → ClassId) (ad : Nat → Nat) (BC BS : Nat) (hlt : l.stackTraces = false) {Xq : Nat → Nat → GT → S → Prop} (g : GT) (ι : S) (sz : Nat) {a0 : Nat} {a1 : Nat} {Q : GT → S → Prop} (hF : P_X9_sleeper BC BS Xq a0 a1 g ι Q) : CYv l yX9_sleeper cX9_sleeper 9 ({ frames := 11, cells := BC, slots := BS, locals := 227 } : Room) D dA ad g ι sz [pX a0, pX a1] Q Xq BC BS := by
  refine yg_enter [pX a0, pX a1] (Qc := fun A => HPv D dA ad g A Q) (XC := fun A => XHC D dA ad g A Xq) (by decide +kernel) (Nat.le_of_ble_eq_true rfl) ?_
  intro p e s m args below meth c A ls X hP hl hex
  exact we_X9_sleeper hlt hex _ _ _ _ _ _ _ _ hF X hP HA.rf hl
end HGA
