set_option maxRecDepth 100000
section HGA
variable {p : Program} {l : Launch} {e : Env} {s : State} {m : MethodId} {args : Array Value} {below : List Frame} {meth : Method} {c : Code} {D : va_G} {dA : Nat → ClassId} {ad0 : Nat → Nat} {A : Nat → Prop} {g0 : GT}
def P_J0_init (BC BS : Nat) (a0 : Nat) (g : GT) (ι : S) (Q : GT → S → Prop) : Prop := (gK g a0 = 18 ∧ (Q g ι))
set_option maxHeartbeats 2000000 in
theorem we_J0_init (hnm : meth.name = "<init>") {BC BS : Nat} {Q : GT → S → Prop} : ∀ (a0 : Nat) (g : GT) (ι : S) (ad : Nat → Nat) (H : Heap) (locs : List Loc) (ls : Array Slot), P_J0_init BC BS a0 g ι Q → CX p s m args c meth cJ0_init 1 none RJ0 D dA ad A → PW D dA A s.heap ad (HS g ι) H locs → HA ad0 g0 ad g → LH ad ls 1 [(0, pX a0)] → WHv p l e ({ frames := 1, cells := BC, slots := BS, locals := 20 } : Room) s m args below meth c D dA ad0 g0 A Q BC BS H locs (0) (0) (F0 m 0 ls []) := by
  intro a0 g ι ad H locs ls hF X hP hag hl
  unfold P_J0_init at hF
  refine ph_aload_n (n := 0) X hl dJ0_init_0 rfl rfl ?_
  obtain ⟨hm1, hF⟩ := hF
  refine hg_obj X hl (cg_nz hP hm1 (by decide)) q165 q146 (k8 := 0) (cs0 (k := 0)) (by decide) ⟨Nat.le_of_ble_eq_true rfl, Nat.le_of_ble_eq_true rfl⟩ dJ0_init_1 ?_
  exact hg_vret X hP hag hF (Nat.zero_le _) (Nat.zero_le _) dJ0_init_4
set_option maxHeartbeats 2000000 in
theorem met_J0_init (l : Launch) (D : va_G) (dA : Nat → ClassId) (ad : Nat → Nat) (BC BS : Nat) (g : GT) (ι : S) (sz : Nat) {a0 : Nat} {Q : GT → S → Prop} (hF : P_J0_init BC BS a0 g ι Q) : CHv l yJ0_init cJ0_init 1 ({ frames := 1, cells := BC, slots := BS, locals := 20 } : Room) D dA ad g ι sz [pX a0] Q BC BS := by
  refine ph_enter [pX a0] (Qc := fun A => HPv D dA ad g A Q) (by decide +kernel) (Nat.le_of_ble_eq_true rfl) ?_
  intro p e s m args below meth c A ls X hP hl hnm
  have hnm : meth.name = "<init>" := hnm
  exact we_J0_init hnm _ _ _ _ _ _ _ hF X hP HA.rf hl
def P_J1_init (BC BS : Nat) (a0 : Nat) (g : GT) (ι : S) (Q : GT → S → Prop) : Prop := (a0 < 200 + gN g ∧ ((0 ≤ BC ∧ 0 ≤ BS) ∧ (gK g a0 = 18 ∧ (P_J0_init 0 0 a0 g ι (fun g3 ι4 => (gK g3 a0 = 18 ∧ (∀ ι9, ι9 = up2 ι4 a0 0 0 → (Q g3 ι9))))))))
set_option maxHeartbeats 2000000 in
theorem we_J1_init (hnm : meth.name = "<init>") {BC BS : Nat} {Q : GT → S → Prop} : ∀ (a0 : Nat) (g : GT) (ι : S) (ad : Nat → Nat) (H : Heap) (locs : List Loc) (ls : Array Slot), P_J1_init BC BS a0 g ι Q → CX p s m args c meth cJ1_init 1 none RJ1 D dA ad A → PW D dA A s.heap ad (HS g ι) H locs → HA ad0 g0 ad g → LH ad ls 1 [(0, pX a0)] → WHv p l e ({ frames := 2, cells := BC, slots := BS, locals := 40 } : Room) s m args below meth c D dA ad0 g0 A Q BC BS H locs (0) (0) (F0 m 0 ls []) := by
  intro a0 g ι ad H locs ls hF X hP hag hl
  unfold P_J1_init at hF
  refine ph_aload_n (n := 0) X hl dJ1_init_0 rfl rfl ?_
  obtain ⟨hx1, hF⟩ := hF
  obtain ⟨hd2, hF⟩ := hF
  obtain ⟨hm10, hF⟩ := hF
  refine hg_callI [] [] X hP (cg_nz hP hm10 (by decide)) (met_J0_init l D dA ad _ _ _ _ _ hF) (cwI 0 X.2.2.2.2.1 (lw_meth q164) rfl rfl rfl (X.2.2.2.2.1 _ q100) (X.2.2.2.2.1 _ q162) (X.2.2.2.2.1 _ q163) rfl (by decide +kernel) ⟨Nat.le_of_ble_eq_true rfl, Nat.le_of_ble_eq_true rfl⟩) rfl hag hl (ltlp hx1 ltln) ltsn (k8 := 0) (cs0 (k := 0)) (by decide) hd2 dJ1_init_1 rfl (fun ad g3 ι4 H locs hF X hP hag he5 hl => ?_)
  show WHv p l e ({ frames := 2, cells := BC, slots := BS, locals := 40 } : Room) s m args below meth c D dA ad0 g0 A Q BC BS H locs (0) (0) (F0 m 4 ls [])
  refine ph_aload_n (n := 0) X hl dJ1_init_4 rfl rfl ?_
  refine lv_iconst (v := 0) X.1 X.2.1 dJ1_init_5 (by decide) ?_
  obtain ⟨hm8, hF⟩ := hF
  refine hg_puti 17 0 X in_J2 tyJ2 tyJ2_ok nmJ2 hP hm8 q484 dJ1_init_6 rfl rfl hF (fun H locs ι9 hP hF => ?_)
  exact hg_vret X hP hag hF (Nat.zero_le _) (Nat.zero_le _) dJ1_init_9
set_option maxHeartbeats 2000000 in
theorem met_J1_init (l : Launch) (D : va_G) (dA : Nat → ClassId) (ad : Nat → Nat) (BC BS : Nat) (g : GT) (ι : S) (sz : Nat) {a0 : Nat} {Q : GT → S → Prop} (hF : P_J1_init BC BS a0 g ι Q) : CHv l yJ1_init cJ1_init 1 ({ frames := 2, cells := BC, slots := BS, locals := 40 } : Room) D dA ad g ι sz [pX a0] Q BC BS := by
  refine ph_enter [pX a0] (Qc := fun A => HPv D dA ad g A Q) (by decide +kernel) (Nat.le_of_ble_eq_true rfl) ?_
  intro p e s m args below meth c A ls X hP hl hnm
  have hnm : meth.name = "<init>" := hnm
  exact we_J1_init hnm _ _ _ _ _ _ _ hF X hP HA.rf hl
def P_X6_init (BC BS : Nat) (a0 : Nat) (g : GT) (ι : S) (Q : GT → S → Prop) : Prop := (gK g a0 = 6 ∧ (a0 < 200 + gN g ∧ ((1 ≤ BC ∧ 7 ≤ BS) ∧ (∀ g4 ι5, g4 = newg g 100 7 → ι5 = newi g ι → (∀ g8, g8 = setg g4 a0 0 (200 + gN g) → ((2 ≤ BC ∧ 14 ≤ BS) ∧ (∀ g11 ι12, g11 = newg g8 100 7 → ι12 = newi g8 ι5 → (∀ g15, g15 = setg g11 a0 1 (200 + gN g8) → (∀ ι18, ι18 = up2 ι12 a0 4 (-1) → (Q g15 ι18))))))))))
set_option maxHeartbeats 2000000 in
theorem we_X6_init (hnm : meth.name = "<init>") {BC BS : Nat} {Q : GT → S → Prop} : ∀ (a0 : Nat) (g : GT) (ι : S) (ad : Nat → Nat) (H : Heap) (locs : List Loc) (ls : Array Slot), P_X6_init BC BS a0 g ι Q → CX p s m args c meth cX6_init 1 none RX6 D dA ad A → PW D dA A s.heap ad (HS g ι) H locs → HA ad0 g0 ad g → LH ad ls 1 [(0, pX a0)] → WHv p l e ({ frames := 1, cells := BC, slots := BS, locals := 20 } : Room) s m args below meth c D dA ad0 g0 A Q BC BS H locs (0) (0) (F0 m 0 ls []) := by
  intro a0 g ι ad H locs ls hF X hP hag hl
  unfold P_X6_init at hF
  refine ph_aload_n (n := 0) X hl dX6_init_0 rfl rfl ?_
  obtain ⟨hm1, hF⟩ := hF
  refine hg_obj X hl (cg_nz hP hm1 (by decide)) q579 q146 (k8 := 0) (cs0 (k := 0)) (by decide) ⟨Nat.le_of_ble_eq_true rfl, Nat.le_of_ble_eq_true rfl⟩ dX6_init_1 ?_
  refine ph_aload_n (n := 0) X hl dX6_init_4 rfl rfl ?_
  refine lv_bipush (v := 7) X.1 X.2.1 dX6_init_5 (by decide) ?_
  obtain ⟨hx2, hF⟩ := hF
  obtain ⟨hd3, hF⟩ := hF
  refine hg_newaI [pX a0] X hP hag hl (ltlp hx2 ltln) (ltsp hx2 ltsn) q516 (by decide) (by decide) (Nat.le_of_ble_eq_true rfl) hd3 dX6_init_7 rfl hF (fun H ad g4 ι5 X hP hag he6 hk7 hl hF => ?_)
  show WHv p l e ({ frames := 1, cells := BC, slots := BS, locals := 20 } : Room) s m args below meth c D dA ad0 g0 A Q BC BS H locs (1) (7) (F0 m 9 ls [rv ad (200 + gN g), rv ad a0])
  refine hg_putrF 5 0 X in_X6 tyX6 tyX6_ok nmX6 hP (by rw [hk7.2 _ hx2]; exact hm1) q580 hnm dX6_init_9 (ltw he6) hF (fun H locs g8 hP he9 hF => ?_) (Or.inr ⟨_, rfl⟩)
  have hag : HA ad0 g0 ad g8 := ⟨by rw [he9.1]; exact hag.1, hag.2⟩
  refine ph_aload_n (n := 0) X hl dX6_init_12 rfl rfl ?_
  refine lv_bipush (v := 7) X.1 X.2.1 dX6_init_13 (by decide) ?_
  obtain ⟨hd10, hF⟩ := hF
  refine hg_newaI [pX a0] X hP hag hl (ltlp (ltm (ltm hx2 (Nat.le_of_succ_le he6)) (Nat.le_of_eq he9.1.symm)) ltln) (ltsp (ltm (ltm hx2 (Nat.le_of_succ_le he6)) (Nat.le_of_eq he9.1.symm)) ltsn) q516 (by decide) (by decide) (Nat.le_of_ble_eq_true rfl) hd10 dX6_init_15 rfl hF (fun H ad g11 ι12 X hP hag he13 hk14 hl hF => ?_)
  show WHv p l e ({ frames := 1, cells := BC, slots := BS, locals := 20 } : Room) s m args below meth c D dA ad0 g0 A Q BC BS H locs (2) (14) (F0 m 17 ls [rv ad (200 + gN g8), rv ad a0])
  refine hg_putrF 5 1 X in_X6 tyX6 tyX6_ok nmX6 hP (by rw [hk14.2 _ (ltm (ltm hx2 (Nat.le_of_succ_le he6)) (Nat.le_of_eq he9.1.symm))]; exact (by rw [he9.2.1]; exact (by rw [hk7.2 _ hx2]; exact hm1))) q583 hnm dX6_init_17 (ltw he13) hF (fun H locs g15 hP he16 hF => ?_) (Or.inr ⟨_, rfl⟩)
  have hag : HA ad0 g0 ad g15 := ⟨by rw [he16.1]; exact hag.1, hag.2⟩
  refine ph_aload_n (n := 0) X hl dX6_init_20 rfl rfl ?_
  refine lv_iconst (v := (-1)) X.1 X.2.1 dX6_init_21 (by decide) ?_
  have hm17 : gK g15 a0 = 6 := (by rw [he16.2.1]; exact (by rw [hk14.2 _ (ltm (ltm hx2 (Nat.le_of_succ_le he6)) (Nat.le_of_eq he9.1.symm))]; exact (by rw [he9.2.1]; exact (by rw [hk7.2 _ hx2]; exact hm1))))
  refine hg_puti 5 4 X in_X6 tyX6 tyX6_ok nmX6 hP hm17 q591 dX6_init_22 rfl rfl hF (fun H locs ι18 hP hF => ?_)
  exact hg_vret X hP hag hF hd10.1 hd10.2 dX6_init_25
set_option maxHeartbeats 2000000 in
theorem met_X6_init (l : Launch) (D : va_G) (dA : Nat → ClassId) (ad : Nat → Nat) (BC BS : Nat) (g : GT) (ι : S) (sz : Nat) {a0 : Nat} {Q : GT → S → Prop} (hF : P_X6_init BC BS a0 g ι Q) : CHv l yX6_init cX6_init 1 ({ frames := 1, cells := BC, slots := BS, locals := 20 } : Room) D dA ad g ι sz [pX a0] Q BC BS := by
  refine ph_enter [pX a0] (Qc := fun A => HPv D dA ad g A Q) (by decide +kernel) (Nat.le_of_ble_eq_true rfl) ?_
  intro p e s m args below meth c A ls X hP hl hnm
  have hnm : meth.name = "<init>" := hnm
  exact we_X6_init hnm _ _ _ _ _ _ _ hF X hP HA.rf hl
def P_X7_init (BC BS : Nat) (a0 : Nat) (a1 : Nat) (a2 : Nat) (a3 : Nat) (a4 : Nat) (a5 : Nat) (a6 : Nat) (g : GT) (ι : S) (Q : GT → S → Prop) : Prop := (gK g a0 = 7 ∧ (a6 < 200 + gN g ∧ (a5 < 200 + gN g ∧ (a4 < 200 + gN g ∧ (a3 < 200 + gN g ∧ (a2 < 200 + gN g ∧ (a1 < 200 + gN g ∧ (a0 < 200 + gN g ∧ ((1 ≤ BC ∧ 7 ≤ BS) ∧ (∀ g10 ι11, g10 = newg g 100 7 → ι11 = newi g ι → (∀ g14, g14 = setg g10 a0 2 (200 + gN g) → ((2 ≤ BC ∧ 14 ≤ BS) ∧ (∀ g17 ι18, g17 = newg g14 100 7 → ι18 = newi g14 ι11 → (∀ g22, g22 = setg g17 a0 3 (200 + gN g14) → ((3 ≤ BC ∧ 21 ≤ BS) ∧ (∀ g25 ι26, g25 = newg g22 100 7 → ι26 = newi g22 ι18 → (∀ g30, g30 = setg g25 a0 4 (200 + gN g22) → ((4 ≤ BC ∧ 28 ≤ BS) ∧ (∀ g40 ι41, g40 = newg g30 100 7 → ι41 = newi g30 ι26 → (∀ g44, g44 = setg g40 a0 5 (200 + gN g30) → ((5 ≤ BC ∧ 35 ≤ BS) ∧ (∀ g47 ι48, g47 = newg g44 100 7 → ι48 = newi g44 ι41 → (∀ g52, g52 = setg g47 a0 6 (200 + gN g44) → (∀ g54, g54 = setg g52 a0 0 a1 → (∀ g57, g57 = setg g54 a0 1 a2 → (∀ g60, g60 = setg g57 a0 7 a3 → (∀ g63, g63 = setg g60 a0 8 a4 → (∀ g66, g66 = setg g63 a0 9 a5 → (∀ g70, g70 = setg g66 a0 10 a6 → (Q g70 ι48))))))))))))))))))))))))))))))
set_option maxHeartbeats 2000000 in
theorem we_X7_init (hnm : meth.name = "<init>") {BC BS : Nat} {Q : GT → S → Prop} : ∀ (a0 : Nat) (a1 : Nat) (a2 : Nat) (a3 : Nat) (a4 : Nat) (a5 : Nat) (a6 : Nat) (g : GT) (ι : S) (ad : Nat → Nat) (H : Heap) (locs : List Loc) (ls : Array Slot), P_X7_init BC BS a0 a1 a2 a3 a4 a5 a6 g ι Q → CX p s m args c meth cX7_init 7 none RX7 D dA ad A → PW D dA A s.heap ad (HS g ι) H locs → HA ad0 g0 ad g → LH ad ls 7 [(0, pX a0), (1, pX a1), (2, pX a2), (3, pX a3), (4, pX a4), (5, pX a5), (6, pX a6)] → WHv p l e ({ frames := 1, cells := BC, slots := BS, locals := 20 } : Room) s m args below meth c D dA ad0 g0 A Q BC BS H locs (0) (0) (F0 m 0 ls []) := by
  intro a0 a1 a2 a3 a4 a5 a6 g ι ad H locs ls hF X hP hag hl
  unfold P_X7_init at hF
  refine ph_aload_n (n := 0) X hl dX7_init_0 rfl rfl ?_
  obtain ⟨hm1, hF⟩ := hF
  refine hg_obj X hl (cg_nz hP hm1 (by decide)) q716 q146 (k8 := 0) (cs0 (k := 0)) (by decide) ⟨Nat.le_of_ble_eq_true rfl, Nat.le_of_ble_eq_true rfl⟩ dX7_init_1 ?_
  refine ph_aload_n (n := 0) X hl dX7_init_4 rfl rfl ?_
  refine lv_bipush (v := 7) X.1 X.2.1 dX7_init_5 (by decide) ?_
  obtain ⟨hx2, hF⟩ := hF
  obtain ⟨hx3, hF⟩ := hF
  obtain ⟨hx4, hF⟩ := hF
  obtain ⟨hx5, hF⟩ := hF
  obtain ⟨hx6, hF⟩ := hF
  obtain ⟨hx7, hF⟩ := hF
  obtain ⟨hx8, hF⟩ := hF
  obtain ⟨hd9, hF⟩ := hF
  refine hg_newaI [pX a0] X hP hag hl (ltlp hx8 (ltlp hx7 (ltlp hx6 (ltlp hx5 (ltlp hx4 (ltlp hx3 (ltlp hx2 ltln))))))) (ltsp hx8 ltsn) q516 (by decide) (by decide) (Nat.le_of_ble_eq_true rfl) hd9 dX7_init_7 rfl hF (fun H ad g10 ι11 X hP hag he12 hk13 hl hF => ?_)
  show WHv p l e ({ frames := 1, cells := BC, slots := BS, locals := 20 } : Room) s m args below meth c D dA ad0 g0 A Q BC BS H locs (1) (7) (F0 m 9 ls [rv ad (200 + gN g), rv ad a0])
  refine hg_putrF 6 2 X in_X7 tyX7 tyX7_ok nmX7 hP (by rw [hk13.2 _ hx8]; exact hm1) q719 hnm dX7_init_9 (ltw he12) hF (fun H locs g14 hP he15 hF => ?_) (Or.inr ⟨_, rfl⟩)
  have hag : HA ad0 g0 ad g14 := ⟨by rw [he15.1]; exact hag.1, hag.2⟩
  refine ph_aload_n (n := 0) X hl dX7_init_12 rfl rfl ?_
  refine lv_bipush (v := 7) X.1 X.2.1 dX7_init_13 (by decide) ?_
  obtain ⟨hd16, hF⟩ := hF
  refine hg_newaI [pX a0] X hP hag hl (ltlp (ltm (ltm hx8 (Nat.le_of_succ_le he12)) (Nat.le_of_eq he15.1.symm)) (ltlp (ltm (ltm hx7 (Nat.le_of_succ_le he12)) (Nat.le_of_eq he15.1.symm)) (ltlp (ltm (ltm hx6 (Nat.le_of_succ_le he12)) (Nat.le_of_eq he15.1.symm)) (ltlp (ltm (ltm hx5 (Nat.le_of_succ_le he12)) (Nat.le_of_eq he15.1.symm)) (ltlp (ltm (ltm hx4 (Nat.le_of_succ_le he12)) (Nat.le_of_eq he15.1.symm)) (ltlp (ltm (ltm hx3 (Nat.le_of_succ_le he12)) (Nat.le_of_eq he15.1.symm)) (ltlp (ltm (ltm hx2 (Nat.le_of_succ_le he12)) (Nat.le_of_eq he15.1.symm)) ltln))))))) (ltsp (ltm (ltm hx8 (Nat.le_of_succ_le he12)) (Nat.le_of_eq he15.1.symm)) ltsn) q516 (by decide) (by decide) (Nat.le_of_ble_eq_true rfl) hd16 dX7_init_15 rfl hF (fun H ad g17 ι18 X hP hag he19 hk20 hl hF => ?_)
  show WHv p l e ({ frames := 1, cells := BC, slots := BS, locals := 20 } : Room) s m args below meth c D dA ad0 g0 A Q BC BS H locs (2) (14) (F0 m 17 ls [rv ad (200 + gN g14), rv ad a0])
  have hm21 : gK g17 a0 = 7 := (by rw [hk20.2 _ (ltm (ltm hx8 (Nat.le_of_succ_le he12)) (Nat.le_of_eq he15.1.symm))]; exact (by rw [he15.2.1]; exact (by rw [hk13.2 _ hx8]; exact hm1)))
  refine hg_putrF 6 3 X in_X7 tyX7 tyX7_ok nmX7 hP hm21 q721 hnm dX7_init_17 (ltw he19) hF (fun H locs g22 hP he23 hF => ?_) (Or.inr ⟨_, rfl⟩)
  have hag : HA ad0 g0 ad g22 := ⟨by rw [he23.1]; exact hag.1, hag.2⟩
  refine ph_aload_n (n := 0) X hl dX7_init_20 rfl rfl ?_
  refine lv_bipush (v := 7) X.1 X.2.1 dX7_init_21 (by decide) ?_
  obtain ⟨hd24, hF⟩ := hF
  refine hg_newaI [pX a0] X hP hag hl (ltlp (ltm (ltm (ltm (ltm hx8 (Nat.le_of_succ_le he12)) (Nat.le_of_eq he15.1.symm)) (Nat.le_of_succ_le he19)) (Nat.le_of_eq he23.1.symm)) (ltlp (ltm (ltm (ltm (ltm hx7 (Nat.le_of_succ_le he12)) (Nat.le_of_eq he15.1.symm)) (Nat.le_of_succ_le he19)) (Nat.le_of_eq he23.1.symm)) (ltlp (ltm (ltm (ltm (ltm hx6 (Nat.le_of_succ_le he12)) (Nat.le_of_eq he15.1.symm)) (Nat.le_of_succ_le he19)) (Nat.le_of_eq he23.1.symm)) (ltlp (ltm (ltm (ltm (ltm hx5 (Nat.le_of_succ_le he12)) (Nat.le_of_eq he15.1.symm)) (Nat.le_of_succ_le he19)) (Nat.le_of_eq he23.1.symm)) (ltlp (ltm (ltm (ltm (ltm hx4 (Nat.le_of_succ_le he12)) (Nat.le_of_eq he15.1.symm)) (Nat.le_of_succ_le he19)) (Nat.le_of_eq he23.1.symm)) (ltlp (ltm (ltm (ltm (ltm hx3 (Nat.le_of_succ_le he12)) (Nat.le_of_eq he15.1.symm)) (Nat.le_of_succ_le he19)) (Nat.le_of_eq he23.1.symm)) (ltlp (ltm (ltm (ltm (ltm hx2 (Nat.le_of_succ_le he12)) (Nat.le_of_eq he15.1.symm)) (Nat.le_of_succ_le he19)) (Nat.le_of_eq he23.1.symm)) ltln))))))) (ltsp (ltm (ltm (ltm (ltm hx8 (Nat.le_of_succ_le he12)) (Nat.le_of_eq he15.1.symm)) (Nat.le_of_succ_le he19)) (Nat.le_of_eq he23.1.symm)) ltsn) q516 (by decide) (by decide) (Nat.le_of_ble_eq_true rfl) hd24 dX7_init_23 rfl hF (fun H ad g25 ι26 X hP hag he27 hk28 hl hF => ?_)
  show WHv p l e ({ frames := 1, cells := BC, slots := BS, locals := 20 } : Room) s m args below meth c D dA ad0 g0 A Q BC BS H locs (3) (21) (F0 m 25 ls [rv ad (200 + gN g22), rv ad a0])
  have hm29 : gK g25 a0 = 7 := (by rw [hk28.2 _ (ltm (ltm (ltm (ltm hx8 (Nat.le_of_succ_le he12)) (Nat.le_of_eq he15.1.symm)) (Nat.le_of_succ_le he19)) (Nat.le_of_eq he23.1.symm))]; exact (by rw [he23.2.1]; exact hm21))
  refine hg_putrF 6 4 X in_X7 tyX7 tyX7_ok nmX7 hP hm29 q722 hnm dX7_init_25 (ltw he27) hF (fun H locs g30 hP he31 hF => ?_) (Or.inr ⟨_, rfl⟩)
  have hag : HA ad0 g0 ad g30 := ⟨by rw [he31.1]; exact hag.1, hag.2⟩
  refine ph_aload_n (n := 0) X hl dX7_init_28 rfl rfl ?_
  refine lv_bipush (v := 7) X.1 X.2.1 dX7_init_29 (by decide) ?_
  have hx32 : a6 < 200 + gN g30 := (ltm (ltm (ltm (ltm (ltm (ltm hx2 (Nat.le_of_succ_le he12)) (Nat.le_of_eq he15.1.symm)) (Nat.le_of_succ_le he19)) (Nat.le_of_eq he23.1.symm)) (Nat.le_of_succ_le he27)) (Nat.le_of_eq he31.1.symm))
  have hx33 : a5 < 200 + gN g30 := (ltm (ltm (ltm (ltm (ltm (ltm hx3 (Nat.le_of_succ_le he12)) (Nat.le_of_eq he15.1.symm)) (Nat.le_of_succ_le he19)) (Nat.le_of_eq he23.1.symm)) (Nat.le_of_succ_le he27)) (Nat.le_of_eq he31.1.symm))
  have hx34 : a4 < 200 + gN g30 := (ltm (ltm (ltm (ltm (ltm (ltm hx4 (Nat.le_of_succ_le he12)) (Nat.le_of_eq he15.1.symm)) (Nat.le_of_succ_le he19)) (Nat.le_of_eq he23.1.symm)) (Nat.le_of_succ_le he27)) (Nat.le_of_eq he31.1.symm))
  have hx35 : a3 < 200 + gN g30 := (ltm (ltm (ltm (ltm (ltm (ltm hx5 (Nat.le_of_succ_le he12)) (Nat.le_of_eq he15.1.symm)) (Nat.le_of_succ_le he19)) (Nat.le_of_eq he23.1.symm)) (Nat.le_of_succ_le he27)) (Nat.le_of_eq he31.1.symm))
  have hx36 : a2 < 200 + gN g30 := (ltm (ltm (ltm (ltm (ltm (ltm hx6 (Nat.le_of_succ_le he12)) (Nat.le_of_eq he15.1.symm)) (Nat.le_of_succ_le he19)) (Nat.le_of_eq he23.1.symm)) (Nat.le_of_succ_le he27)) (Nat.le_of_eq he31.1.symm))
  have hx37 : a1 < 200 + gN g30 := (ltm (ltm (ltm (ltm (ltm (ltm hx7 (Nat.le_of_succ_le he12)) (Nat.le_of_eq he15.1.symm)) (Nat.le_of_succ_le he19)) (Nat.le_of_eq he23.1.symm)) (Nat.le_of_succ_le he27)) (Nat.le_of_eq he31.1.symm))
  have hx38 : a0 < 200 + gN g30 := (ltm (ltm (ltm (ltm (ltm (ltm hx8 (Nat.le_of_succ_le he12)) (Nat.le_of_eq he15.1.symm)) (Nat.le_of_succ_le he19)) (Nat.le_of_eq he23.1.symm)) (Nat.le_of_succ_le he27)) (Nat.le_of_eq he31.1.symm))
  obtain ⟨hd39, hF⟩ := hF
  refine hg_newaI [pX a0] X hP hag hl (ltlp hx38 (ltlp hx37 (ltlp hx36 (ltlp hx35 (ltlp hx34 (ltlp hx33 (ltlp hx32 ltln))))))) (ltsp hx38 ltsn) q516 (by decide) (by decide) (Nat.le_of_ble_eq_true rfl) hd39 dX7_init_31 rfl hF (fun H ad g40 ι41 X hP hag he42 hk43 hl hF => ?_)
  show WHv p l e ({ frames := 1, cells := BC, slots := BS, locals := 20 } : Room) s m args below meth c D dA ad0 g0 A Q BC BS H locs (4) (28) (F0 m 33 ls [rv ad (200 + gN g30), rv ad a0])
  refine hg_putrF 6 5 X in_X7 tyX7 tyX7_ok nmX7 hP (by rw [hk43.2 _ hx38]; exact (by rw [he31.2.1]; exact hm29)) q724 hnm dX7_init_33 (ltw he42) hF (fun H locs g44 hP he45 hF => ?_) (Or.inr ⟨_, rfl⟩)
  have hag : HA ad0 g0 ad g44 := ⟨by rw [he45.1]; exact hag.1, hag.2⟩
  refine ph_aload_n (n := 0) X hl dX7_init_36 rfl rfl ?_
  refine lv_bipush (v := 7) X.1 X.2.1 dX7_init_37 (by decide) ?_
  obtain ⟨hd46, hF⟩ := hF
  refine hg_newaI [pX a0] X hP hag hl (ltlp (ltm (ltm hx38 (Nat.le_of_succ_le he42)) (Nat.le_of_eq he45.1.symm)) (ltlp (ltm (ltm hx37 (Nat.le_of_succ_le he42)) (Nat.le_of_eq he45.1.symm)) (ltlp (ltm (ltm hx36 (Nat.le_of_succ_le he42)) (Nat.le_of_eq he45.1.symm)) (ltlp (ltm (ltm hx35 (Nat.le_of_succ_le he42)) (Nat.le_of_eq he45.1.symm)) (ltlp (ltm (ltm hx34 (Nat.le_of_succ_le he42)) (Nat.le_of_eq he45.1.symm)) (ltlp (ltm (ltm hx33 (Nat.le_of_succ_le he42)) (Nat.le_of_eq he45.1.symm)) (ltlp (ltm (ltm hx32 (Nat.le_of_succ_le he42)) (Nat.le_of_eq he45.1.symm)) ltln))))))) (ltsp (ltm (ltm hx38 (Nat.le_of_succ_le he42)) (Nat.le_of_eq he45.1.symm)) ltsn) q516 (by decide) (by decide) (Nat.le_of_ble_eq_true rfl) hd46 dX7_init_39 rfl hF (fun H ad g47 ι48 X hP hag he49 hk50 hl hF => ?_)
  show WHv p l e ({ frames := 1, cells := BC, slots := BS, locals := 20 } : Room) s m args below meth c D dA ad0 g0 A Q BC BS H locs (5) (35) (F0 m 41 ls [rv ad (200 + gN g44), rv ad a0])
  have hm51 : gK g47 a0 = 7 := (by rw [hk50.2 _ (ltm (ltm hx38 (Nat.le_of_succ_le he42)) (Nat.le_of_eq he45.1.symm))]; exact (by rw [he45.2.1]; exact (by rw [hk43.2 _ hx38]; exact (by rw [he31.2.1]; exact hm29))))
  refine hg_putrF 6 6 X in_X7 tyX7 tyX7_ok nmX7 hP hm51 q725 hnm dX7_init_41 (ltw he49) hF (fun H locs g52 hP he53 hF => ?_) (Or.inr ⟨_, rfl⟩)
  have hag : HA ad0 g0 ad g52 := ⟨by rw [he53.1]; exact hag.1, hag.2⟩
  refine ph_aload_n (n := 0) X hl dX7_init_44 rfl rfl ?_
  refine ph_aload_n (n := 1) X hl dX7_init_45 rfl rfl ?_
  refine hg_putrF 6 0 X in_X7 tyX7 tyX7_ok nmX7 hP (by rw [he53.2.1]; exact hm51) q717 hnm dX7_init_46 (ltm (ltm (ltm (ltm hx37 (Nat.le_of_succ_le he42)) (Nat.le_of_eq he45.1.symm)) (Nat.le_of_succ_le he49)) (Nat.le_of_eq he53.1.symm)) hF (fun H locs g54 hP he55 hF => ?_) (Or.inl ⟨_, rfl⟩)
  have hag : HA ad0 g0 ad g54 := ⟨by rw [he55.1]; exact hag.1, hag.2⟩
  refine ph_aload_n (n := 0) X hl dX7_init_49 rfl rfl ?_
  refine ph_aload_n (n := 2) X hl dX7_init_50 rfl rfl ?_
  have hx56 : a2 < 200 + gN g54 := (ltm (ltm (ltm (ltm (ltm hx36 (Nat.le_of_succ_le he42)) (Nat.le_of_eq he45.1.symm)) (Nat.le_of_succ_le he49)) (Nat.le_of_eq he53.1.symm)) (Nat.le_of_eq he55.1.symm))
  refine hg_putrF 6 1 X in_X7 tyX7 tyX7_ok nmX7 hP (by rw [he55.2.1]; exact (by rw [he53.2.1]; exact hm51)) q718 hnm dX7_init_51 hx56 hF (fun H locs g57 hP he58 hF => ?_) (Or.inl ⟨_, rfl⟩)
  have hag : HA ad0 g0 ad g57 := ⟨by rw [he58.1]; exact hag.1, hag.2⟩
  refine ph_aload_n (n := 0) X hl dX7_init_54 rfl rfl ?_
  refine ph_aload_n (n := 3) X hl dX7_init_55 rfl rfl ?_
  have hx59 : a3 < 200 + gN g57 := (ltm (ltm (ltm (ltm (ltm (ltm hx35 (Nat.le_of_succ_le he42)) (Nat.le_of_eq he45.1.symm)) (Nat.le_of_succ_le he49)) (Nat.le_of_eq he53.1.symm)) (Nat.le_of_eq he55.1.symm)) (Nat.le_of_eq he58.1.symm))
  refine hg_putrF 6 7 X in_X7 tyX7 tyX7_ok nmX7 hP (by rw [he58.2.1]; exact (by rw [he55.2.1]; exact (by rw [he53.2.1]; exact hm51))) q727 hnm dX7_init_56 hx59 hF (fun H locs g60 hP he61 hF => ?_) (Or.inr ⟨_, rfl⟩)
  have hag : HA ad0 g0 ad g60 := ⟨by rw [he61.1]; exact hag.1, hag.2⟩
  refine ph_aload_n (n := 0) X hl dX7_init_59 rfl rfl ?_
  refine ph_aload (n := 4) X hl dX7_init_60 rfl ?_
  have hx62 : a4 < 200 + gN g60 := (ltm (ltm (ltm (ltm (ltm (ltm (ltm hx34 (Nat.le_of_succ_le he42)) (Nat.le_of_eq he45.1.symm)) (Nat.le_of_succ_le he49)) (Nat.le_of_eq he53.1.symm)) (Nat.le_of_eq he55.1.symm)) (Nat.le_of_eq he58.1.symm)) (Nat.le_of_eq he61.1.symm))
  refine hg_putrF 6 8 X in_X7 tyX7 tyX7_ok nmX7 hP (by rw [he61.2.1]; exact (by rw [he58.2.1]; exact (by rw [he55.2.1]; exact (by rw [he53.2.1]; exact hm51)))) q728 hnm dX7_init_62 hx62 hF (fun H locs g63 hP he64 hF => ?_) (Or.inr ⟨_, rfl⟩)
  have hag : HA ad0 g0 ad g63 := ⟨by rw [he64.1]; exact hag.1, hag.2⟩
  refine ph_aload_n (n := 0) X hl dX7_init_65 rfl rfl ?_
  refine ph_aload (n := 5) X hl dX7_init_66 rfl ?_
  have hx65 : a5 < 200 + gN g63 := (ltm (ltm (ltm (ltm (ltm (ltm (ltm (ltm hx33 (Nat.le_of_succ_le he42)) (Nat.le_of_eq he45.1.symm)) (Nat.le_of_succ_le he49)) (Nat.le_of_eq he53.1.symm)) (Nat.le_of_eq he55.1.symm)) (Nat.le_of_eq he58.1.symm)) (Nat.le_of_eq he61.1.symm)) (Nat.le_of_eq he64.1.symm))
  refine hg_putrF 6 9 X in_X7 tyX7 tyX7_ok nmX7 hP (by rw [he64.2.1]; exact (by rw [he61.2.1]; exact (by rw [he58.2.1]; exact (by rw [he55.2.1]; exact (by rw [he53.2.1]; exact hm51))))) q729 hnm dX7_init_68 hx65 hF (fun H locs g66 hP he67 hF => ?_) (Or.inr ⟨_, rfl⟩)
  have hag : HA ad0 g0 ad g66 := ⟨by rw [he67.1]; exact hag.1, hag.2⟩
  refine ph_aload_n (n := 0) X hl dX7_init_71 rfl rfl ?_
  refine ph_aload (n := 6) X hl dX7_init_72 rfl ?_
  have hm68 : gK g66 a0 = 7 := (by rw [he67.2.1]; exact (by rw [he64.2.1]; exact (by rw [he61.2.1]; exact (by rw [he58.2.1]; exact (by rw [he55.2.1]; exact (by rw [he53.2.1]; exact hm51))))))
  have hx69 : a6 < 200 + gN g66 := (ltm (ltm (ltm (ltm (ltm (ltm (ltm (ltm (ltm hx32 (Nat.le_of_succ_le he42)) (Nat.le_of_eq he45.1.symm)) (Nat.le_of_succ_le he49)) (Nat.le_of_eq he53.1.symm)) (Nat.le_of_eq he55.1.symm)) (Nat.le_of_eq he58.1.symm)) (Nat.le_of_eq he61.1.symm)) (Nat.le_of_eq he64.1.symm)) (Nat.le_of_eq he67.1.symm))
  refine hg_putrF 6 10 X in_X7 tyX7 tyX7_ok nmX7 hP hm68 q730 hnm dX7_init_74 hx69 hF (fun H locs g70 hP he71 hF => ?_) (Or.inr ⟨_, rfl⟩)
  have hag : HA ad0 g0 ad g70 := ⟨by rw [he71.1]; exact hag.1, hag.2⟩
  exact hg_vret X hP hag hF hd46.1 hd46.2 dX7_init_77
set_option maxHeartbeats 2000000 in
theorem met_X7_init (l : Launch) (D : va_G) (dA : Nat → ClassId) (ad : Nat → Nat) (BC BS : Nat) (g : GT) (ι : S) (sz : Nat) {a0 : Nat} {a1 : Nat} {a2 : Nat} {a3 : Nat} {a4 : Nat} {a5 : Nat} {a6 : Nat} {Q : GT → S → Prop} (hF : P_X7_init BC BS a0 a1 a2 a3 a4 a5 a6 g ι Q) : CHv l yX7_init cX7_init 7 ({ frames := 1, cells := BC, slots := BS, locals := 20 } : Room) D dA ad g ι sz [pX a0, pX a1, pX a2, pX a3, pX a4, pX a5, pX a6] Q BC BS := by
  refine ph_enter [pX a0, pX a1, pX a2, pX a3, pX a4, pX a5, pX a6] (Qc := fun A => HPv D dA ad g A Q) (by decide +kernel) (Nat.le_of_ble_eq_true rfl) ?_
  intro p e s m args below meth c A ls X hP hl hnm
  have hnm : meth.name = "<init>" := hnm
  exact we_X7_init hnm _ _ _ _ _ _ _ _ _ _ _ _ _ hF X hP HA.rf hl
def P_X11_initX12 (BC BS : Nat) (a0 : Nat) (g : GT) (ι : S) (Q : GT → S → Prop) : Prop := (gK g a0 = 10 ∧ (Q g ι))
set_option maxHeartbeats 2000000 in
theorem we_X11_initX12 (hnm : meth.name = "<init>") {BC BS : Nat} {Q : GT → S → Prop} : ∀ (a0 : Nat) (g : GT) (ι : S) (ad : Nat → Nat) (H : Heap) (locs : List Loc) (ls : Array Slot), P_X11_initX12 BC BS a0 g ι Q → CX p s m args c meth cX11_init 1 none RX11 D dA ad A → PW D dA A s.heap ad (HS g ι) H locs → HA ad0 g0 ad g → LH ad ls 1 [(0, pX a0)] → WHv p l e ({ frames := 1, cells := BC, slots := BS, locals := 20 } : Room) s m args below meth c D dA ad0 g0 A Q BC BS H locs (0) (0) (F0 m 0 ls []) := by
  intro a0 g ι ad H locs ls hF X hP hag hl
  unfold P_X11_initX12 at hF
  refine ph_aload_n (n := 0) X hl dX11_init_0 rfl rfl ?_
  obtain ⟨hm1, hF⟩ := hF
  refine hg_obj X hl (cg_nz hP hm1 (by decide)) q1368 q146 (k8 := 0) (cs0 (k := 0)) (by decide) ⟨Nat.le_of_ble_eq_true rfl, Nat.le_of_ble_eq_true rfl⟩ dX11_init_1 ?_
  exact hg_vret X hP hag hF (Nat.zero_le _) (Nat.zero_le _) dX11_init_4
set_option maxHeartbeats 2000000 in
theorem met_X11_initX12 (l : Launch) (D : va_G) (dA : Nat → ClassId) (ad : Nat → Nat) (BC BS : Nat) (g : GT) (ι : S) (sz : Nat) {a0 : Nat} {Q : GT → S → Prop} (hF : P_X11_initX12 BC BS a0 g ι Q) : CHv l yX11_init cX11_init 1 ({ frames := 1, cells := BC, slots := BS, locals := 20 } : Room) D dA ad g ι sz [pX a0] Q BC BS := by
  refine ph_enter [pX a0] (Qc := fun A => HPv D dA ad g A Q) (by decide +kernel) (Nat.le_of_ble_eq_true rfl) ?_
  intro p e s m args below meth c A ls X hP hl hnm
  have hnm : meth.name = "<init>" := hnm
  exact we_X11_initX12 hnm _ _ _ _ _ _ _ hF X hP HA.rf hl
def P_X12_init (BC BS : Nat) (a0 : Nat) (a1 : Int32) (g : GT) (ι : S) (Q : GT → S → Prop) : Prop := (a0 < 200 + gN g ∧ ((0 ≤ BC ∧ 0 ≤ BS) ∧ (gK g a0 = 10 ∧ (P_X11_initX12 0 0 a0 g ι (fun g3 ι4 => (gK g3 a0 = 10 ∧ (∀ ι9, ι9 = up2 ι4 a0 0 a1 → (Q g3 ι9))))))))
set_option maxHeartbeats 2000000 in
theorem we_X12_init (hnm : meth.name = "<init>") {BC BS : Nat} {Q : GT → S → Prop} : ∀ (a0 : Nat) (a1 : Int32) (g : GT) (ι : S) (ad : Nat → Nat) (H : Heap) (locs : List Loc) (ls : Array Slot), P_X12_init BC BS a0 a1 g ι Q → CX p s m args c meth cX12_init 2 none RX12 D dA ad A → PW D dA A s.heap ad (HS g ι) H locs → HA ad0 g0 ad g → LH ad ls 2 [(0, pX a0), (1, iX a1)] → WHv p l e ({ frames := 2, cells := BC, slots := BS, locals := 40 } : Room) s m args below meth c D dA ad0 g0 A Q BC BS H locs (0) (0) (F0 m 0 ls []) := by
  intro a0 a1 g ι ad H locs ls hF X hP hag hl
  unfold P_X12_init at hF
  refine ph_aload_n (n := 0) X hl dX12_init_0 rfl rfl ?_
  obtain ⟨hx1, hF⟩ := hF
  obtain ⟨hd2, hF⟩ := hF
  obtain ⟨hm10, hF⟩ := hF
  refine hg_callN [] [] X hP (cg_nz hP hm10 (by decide)) (met_X11_initX12 l D dA ad _ _ _ _ _ hF) (⟨va_cnB 0 X.2.2.2.2.1 (lw_meth q1367) rfl rfl rfl (X.2.2.2.2.2.2.1.2.1 _ q1365 rfl) (X.2.2.2.2.1 _ q130) (by decide +kernel) ⟨Nat.le_of_ble_eq_true rfl, Nat.le_of_ble_eq_true rfl⟩, rfl, X.2.2.2.2.1 _ q1366⟩) rfl hag hl (ltlp hx1 (ltli ltln)) ltsn (k8 := 0) (cs0 (k := 0)) (by decide) hd2 dX12_init_1 rfl (fun ad g3 ι4 H locs hF X hP hag he5 hl => ?_)
  show WHv p l e ({ frames := 2, cells := BC, slots := BS, locals := 40 } : Room) s m args below meth c D dA ad0 g0 A Q BC BS H locs (0) (0) (F0 m 4 ls [])
  refine ph_aload_n (n := 0) X hl dX12_init_4 rfl rfl ?_
  refine ph_iload_n (n := 1) X hl dX12_init_5 rfl rfl ?_
  obtain ⟨hm8, hF⟩ := hF
  refine hg_putiF 9 0 X in_X12 tyX12 tyX12_ok nmX12 hP hm8 q1369 hnm dX12_init_6 rfl rfl hF (fun H locs ι9 hP hF => ?_)
  exact hg_vret X hP hag hF (Nat.zero_le _) (Nat.zero_le _) dX12_init_9
set_option maxHeartbeats 2000000 in
theorem met_X12_init (l : Launch) (D : va_G) (dA : Nat → ClassId) (ad : Nat → Nat) (BC BS : Nat) (g : GT) (ι : S) (sz : Nat) {a0 : Nat} {a1 : Int32} {Q : GT → S → Prop} (hF : P_X12_init BC BS a0 a1 g ι Q) : CHv l yX12_init cX12_init 2 ({ frames := 2, cells := BC, slots := BS, locals := 40 } : Room) D dA ad g ι sz [pX a0, iX a1] Q BC BS := by
  refine ph_enter [pX a0, iX a1] (Qc := fun A => HPv D dA ad g A Q) (by decide +kernel) (Nat.le_of_ble_eq_true rfl) ?_
  intro p e s m args below meth c A ls X hP hl hnm
  have hnm : meth.name = "<init>" := hnm
  exact we_X12_init hnm _ _ _ _ _ _ _ _ hF X hP HA.rf hl
def P_X11_initX13 (BC BS : Nat) (a0 : Nat) (g : GT) (ι : S) (Q : GT → S → Prop) : Prop := (gK g a0 = 11 ∧ (Q g ι))
set_option maxHeartbeats 2000000 in
theorem we_X11_initX13 (hnm : meth.name = "<init>") {BC BS : Nat} {Q : GT → S → Prop} : ∀ (a0 : Nat) (g : GT) (ι : S) (ad : Nat → Nat) (H : Heap) (locs : List Loc) (ls : Array Slot), P_X11_initX13 BC BS a0 g ι Q → CX p s m args c meth cX11_init 1 none RX11 D dA ad A → PW D dA A s.heap ad (HS g ι) H locs → HA ad0 g0 ad g → LH ad ls 1 [(0, pX a0)] → WHv p l e ({ frames := 1, cells := BC, slots := BS, locals := 20 } : Room) s m args below meth c D dA ad0 g0 A Q BC BS H locs (0) (0) (F0 m 0 ls []) := by
  intro a0 g ι ad H locs ls hF X hP hag hl
  unfold P_X11_initX13 at hF
  refine ph_aload_n (n := 0) X hl dX11_init_0 rfl rfl ?_
  obtain ⟨hm1, hF⟩ := hF
  refine hg_obj X hl (cg_nz hP hm1 (by decide)) q1368 q146 (k8 := 0) (cs0 (k := 0)) (by decide) ⟨Nat.le_of_ble_eq_true rfl, Nat.le_of_ble_eq_true rfl⟩ dX11_init_1 ?_
  exact hg_vret X hP hag hF (Nat.zero_le _) (Nat.zero_le _) dX11_init_4
set_option maxHeartbeats 2000000 in
theorem met_X11_initX13 (l : Launch) (D : va_G) (dA : Nat → ClassId) (ad : Nat → Nat) (BC BS : Nat) (g : GT) (ι : S) (sz : Nat) {a0 : Nat} {Q : GT → S → Prop} (hF : P_X11_initX13 BC BS a0 g ι Q) : CHv l yX11_init cX11_init 1 ({ frames := 1, cells := BC, slots := BS, locals := 20 } : Room) D dA ad g ι sz [pX a0] Q BC BS := by
  refine ph_enter [pX a0] (Qc := fun A => HPv D dA ad g A Q) (by decide +kernel) (Nat.le_of_ble_eq_true rfl) ?_
  intro p e s m args below meth c A ls X hP hl hnm
  have hnm : meth.name = "<init>" := hnm
  exact we_X11_initX13 hnm _ _ _ _ _ _ _ hF X hP HA.rf hl
def P_X13_init (BC BS : Nat) (a0 : Nat) (a1 : Nat) (g : GT) (ι : S) (Q : GT → S → Prop) : Prop := (a1 < 200 + gN g ∧ (a0 < 200 + gN g ∧ ((0 ≤ BC ∧ 0 ≤ BS) ∧ (gK g a0 = 11 ∧ (P_X11_initX13 0 0 a0 g ι (fun g4 ι5 => (gK g4 a0 = 11 ∧ (∀ g10, g10 = setg g4 a0 0 a1 → (Q g10 ι5)))))))))
set_option maxHeartbeats 2000000 in
theorem we_X13_init (hnm : meth.name = "<init>") {BC BS : Nat} {Q : GT → S → Prop} : ∀ (a0 : Nat) (a1 : Nat) (g : GT) (ι : S) (ad : Nat → Nat) (H : Heap) (locs : List Loc) (ls : Array Slot), P_X13_init BC BS a0 a1 g ι Q → CX p s m args c meth cX13_init 2 none RX13 D dA ad A → PW D dA A s.heap ad (HS g ι) H locs → HA ad0 g0 ad g → LH ad ls 2 [(0, pX a0), (1, pX a1)] → WHv p l e ({ frames := 2, cells := BC, slots := BS, locals := 40 } : Room) s m args below meth c D dA ad0 g0 A Q BC BS H locs (0) (0) (F0 m 0 ls []) := by
  intro a0 a1 g ι ad H locs ls hF X hP hag hl
  unfold P_X13_init at hF
  refine ph_aload_n (n := 0) X hl dX13_init_0 rfl rfl ?_
  obtain ⟨hx1, hF⟩ := hF
  obtain ⟨hx2, hF⟩ := hF
  obtain ⟨hd3, hF⟩ := hF
  obtain ⟨hm12, hF⟩ := hF
  refine hg_callN [] [] X hP (cg_nz hP hm12 (by decide)) (met_X11_initX13 l D dA ad _ _ _ _ _ hF) (⟨va_cnB 0 X.2.2.2.2.1 (lw_meth q1367) rfl rfl rfl (X.2.2.2.2.2.2.1.2.1 _ q1400 rfl) (X.2.2.2.2.1 _ q130) (by decide +kernel) ⟨Nat.le_of_ble_eq_true rfl, Nat.le_of_ble_eq_true rfl⟩, rfl, X.2.2.2.2.1 _ q1366⟩) rfl hag hl (ltlp hx2 (ltlp hx1 ltln)) ltsn (k8 := 0) (cs0 (k := 0)) (by decide) hd3 dX13_init_1 rfl (fun ad g4 ι5 H locs hF X hP hag he6 hl => ?_)
  show WHv p l e ({ frames := 2, cells := BC, slots := BS, locals := 40 } : Room) s m args below meth c D dA ad0 g0 A Q BC BS H locs (0) (0) (F0 m 4 ls [])
  refine ph_aload_n (n := 0) X hl dX13_init_4 rfl rfl ?_
  refine ph_aload_n (n := 1) X hl dX13_init_5 rfl rfl ?_
  obtain ⟨hm9, hF⟩ := hF
  refine hg_putrF 10 0 X in_X13 tyX13 tyX13_ok nmX13 hP hm9 q1401 hnm dX13_init_6 (ltm hx1 he6) hF (fun H locs g10 hP he11 hF => ?_) (Or.inl ⟨_, rfl⟩)
  have hag : HA ad0 g0 ad g10 := ⟨by rw [he11.1]; exact hag.1, hag.2⟩
  exact hg_vret X hP hag hF (Nat.zero_le _) (Nat.zero_le _) dX13_init_9
set_option maxHeartbeats 2000000 in
theorem met_X13_init (l : Launch) (D : va_G) (dA : Nat → ClassId) (ad : Nat → Nat) (BC BS : Nat) (g : GT) (ι : S) (sz : Nat) {a0 : Nat} {a1 : Nat} {Q : GT → S → Prop} (hF : P_X13_init BC BS a0 a1 g ι Q) : CHv l yX13_init cX13_init 2 ({ frames := 2, cells := BC, slots := BS, locals := 40 } : Room) D dA ad g ι sz [pX a0, pX a1] Q BC BS := by
  refine ph_enter [pX a0, pX a1] (Qc := fun A => HPv D dA ad g A Q) (by decide +kernel) (Nat.le_of_ble_eq_true rfl) ?_
  intro p e s m args below meth c A ls X hP hl hnm
  have hnm : meth.name = "<init>" := hnm
  exact we_X13_init hnm _ _ _ _ _ _ _ _ hF X hP HA.rf hl
def P_X11_initX14 (BC BS : Nat) (a0 : Nat) (g : GT) (ι : S) (Q : GT → S → Prop) : Prop := (gK g a0 = 12 ∧ (Q g ι))
set_option maxHeartbeats 2000000 in
theorem we_X11_initX14 (hnm : meth.name = "<init>") {BC BS : Nat} {Q : GT → S → Prop} : ∀ (a0 : Nat) (g : GT) (ι : S) (ad : Nat → Nat) (H : Heap) (locs : List Loc) (ls : Array Slot), P_X11_initX14 BC BS a0 g ι Q → CX p s m args c meth cX11_init 1 none RX11 D dA ad A → PW D dA A s.heap ad (HS g ι) H locs → HA ad0 g0 ad g → LH ad ls 1 [(0, pX a0)] → WHv p l e ({ frames := 1, cells := BC, slots := BS, locals := 20 } : Room) s m args below meth c D dA ad0 g0 A Q BC BS H locs (0) (0) (F0 m 0 ls []) := by
  intro a0 g ι ad H locs ls hF X hP hag hl
  unfold P_X11_initX14 at hF
  refine ph_aload_n (n := 0) X hl dX11_init_0 rfl rfl ?_
  obtain ⟨hm1, hF⟩ := hF
  refine hg_obj X hl (cg_nz hP hm1 (by decide)) q1368 q146 (k8 := 0) (cs0 (k := 0)) (by decide) ⟨Nat.le_of_ble_eq_true rfl, Nat.le_of_ble_eq_true rfl⟩ dX11_init_1 ?_
  exact hg_vret X hP hag hF (Nat.zero_le _) (Nat.zero_le _) dX11_init_4
set_option maxHeartbeats 2000000 in
theorem met_X11_initX14 (l : Launch) (D : va_G) (dA : Nat → ClassId) (ad : Nat → Nat) (BC BS : Nat) (g : GT) (ι : S) (sz : Nat) {a0 : Nat} {Q : GT → S → Prop} (hF : P_X11_initX14 BC BS a0 g ι Q) : CHv l yX11_init cX11_init 1 ({ frames := 1, cells := BC, slots := BS, locals := 20 } : Room) D dA ad g ι sz [pX a0] Q BC BS := by
  refine ph_enter [pX a0] (Qc := fun A => HPv D dA ad g A Q) (by decide +kernel) (Nat.le_of_ble_eq_true rfl) ?_
  intro p e s m args below meth c A ls X hP hl hnm
  have hnm : meth.name = "<init>" := hnm
  exact we_X11_initX14 hnm _ _ _ _ _ _ _ hF X hP HA.rf hl
def P_X14_init (BC BS : Nat) (a0 : Nat) (a1 : Int32) (a2 : Nat) (a3 : Nat) (g : GT) (ι : S) (Q : GT → S → Prop) : Prop := (a3 < 200 + gN g ∧ (a2 < 200 + gN g ∧ (a0 < 200 + gN g ∧ ((0 ≤ BC ∧ 0 ≤ BS) ∧ (gK g a0 = 12 ∧ (P_X11_initX14 0 0 a0 g ι (fun g5 ι6 => (gK g5 a0 = 12 ∧ ((narrow .char (.int a1) = .int a1 ∧ fits .char (.int a1) = true) ∧ (∀ ι11, ι11 = up2 ι6 a0 0 a1 → (∀ g13, g13 = setg g5 a0 1 a2 → (∀ g15, g15 = setg g13 a0 2 a3 → (Q g15 ι11)))))))))))))
set_option maxHeartbeats 2000000 in
theorem we_X14_init (hnm : meth.name = "<init>") {BC BS : Nat} {Q : GT → S → Prop} : ∀ (a0 : Nat) (a1 : Int32) (a2 : Nat) (a3 : Nat) (g : GT) (ι : S) (ad : Nat → Nat) (H : Heap) (locs : List Loc) (ls : Array Slot), P_X14_init BC BS a0 a1 a2 a3 g ι Q → CX p s m args c meth cX14_init 4 none RX14 D dA ad A → PW D dA A s.heap ad (HS g ι) H locs → HA ad0 g0 ad g → LH ad ls 4 [(0, pX a0), (1, iX a1), (2, pX a2), (3, pX a3)] → WHv p l e ({ frames := 2, cells := BC, slots := BS, locals := 40 } : Room) s m args below meth c D dA ad0 g0 A Q BC BS H locs (0) (0) (F0 m 0 ls []) := by
  intro a0 a1 a2 a3 g ι ad H locs ls hF X hP hag hl
  unfold P_X14_init at hF
  refine ph_aload_n (n := 0) X hl dX14_init_0 rfl rfl ?_
  obtain ⟨hx1, hF⟩ := hF
  obtain ⟨hx2, hF⟩ := hF
  obtain ⟨hx3, hF⟩ := hF
  obtain ⟨hd4, hF⟩ := hF
  obtain ⟨hm17, hF⟩ := hF
  refine hg_callN [] [] X hP (cg_nz hP hm17 (by decide)) (met_X11_initX14 l D dA ad _ _ _ _ _ hF) (⟨va_cnB 0 X.2.2.2.2.1 (lw_meth q1367) rfl rfl rfl (X.2.2.2.2.2.2.1.2.1 _ q1427 rfl) (X.2.2.2.2.1 _ q130) (by decide +kernel) ⟨Nat.le_of_ble_eq_true rfl, Nat.le_of_ble_eq_true rfl⟩, rfl, X.2.2.2.2.1 _ q1366⟩) rfl hag hl (ltlp hx3 (ltli (ltlp hx2 (ltlp hx1 ltln)))) ltsn (k8 := 0) (cs0 (k := 0)) (by decide) hd4 dX14_init_1 rfl (fun ad g5 ι6 H locs hF X hP hag he7 hl => ?_)
  show WHv p l e ({ frames := 2, cells := BC, slots := BS, locals := 40 } : Room) s m args below meth c D dA ad0 g0 A Q BC BS H locs (0) (0) (F0 m 4 ls [])
  refine ph_aload_n (n := 0) X hl dX14_init_4 rfl rfl ?_
  refine ph_iload_n (n := 1) X hl dX14_init_5 rfl rfl ?_
  obtain ⟨hm10, hF⟩ := hF
  obtain ⟨hb12, hF⟩ := hF
  refine hg_putiF 11 0 X in_X14 tyX14 tyX14_ok nmX14 hP hm10 q1428 hnm dX14_init_6 hb12.1 hb12.2 hF (fun H locs ι11 hP hF => ?_)
  refine ph_aload_n (n := 0) X hl dX14_init_9 rfl rfl ?_
  refine ph_aload_n (n := 2) X hl dX14_init_10 rfl rfl ?_
  refine hg_putrF 11 1 X in_X14 tyX14 tyX14_ok nmX14 hP hm10 q1429 hnm dX14_init_11 (ltm hx2 he7) hF (fun H locs g13 hP he14 hF => ?_) (Or.inl ⟨_, rfl⟩)
  have hag : HA ad0 g0 ad g13 := ⟨by rw [he14.1]; exact hag.1, hag.2⟩
  refine ph_aload_n (n := 0) X hl dX14_init_14 rfl rfl ?_
  refine ph_aload_n (n := 3) X hl dX14_init_15 rfl rfl ?_
  refine hg_putrF 11 2 X in_X14 tyX14 tyX14_ok nmX14 hP (by rw [he14.2.1]; exact hm10) q1430 hnm dX14_init_16 (ltm (ltm hx1 he7) (Nat.le_of_eq he14.1.symm)) hF (fun H locs g15 hP he16 hF => ?_) (Or.inl ⟨_, rfl⟩)
  have hag : HA ad0 g0 ad g15 := ⟨by rw [he16.1]; exact hag.1, hag.2⟩
  exact hg_vret X hP hag hF (Nat.zero_le _) (Nat.zero_le _) dX14_init_19
set_option maxHeartbeats 2000000 in
theorem met_X14_init (l : Launch) (D : va_G) (dA : Nat → ClassId) (ad : Nat → Nat) (BC BS : Nat) (g : GT) (ι : S) (sz : Nat) {a0 : Nat} {a1 : Int32} {a2 : Nat} {a3 : Nat} {Q : GT → S → Prop} (hF : P_X14_init BC BS a0 a1 a2 a3 g ι Q) : CHv l yX14_init cX14_init 4 ({ frames := 2, cells := BC, slots := BS, locals := 40 } : Room) D dA ad g ι sz [pX a0, iX a1, pX a2, pX a3] Q BC BS := by
  refine ph_enter [pX a0, iX a1, pX a2, pX a3] (Qc := fun A => HPv D dA ad g A Q) (by decide +kernel) (Nat.le_of_ble_eq_true rfl) ?_
  intro p e s m args below meth c A ls X hP hl hnm
  have hnm : meth.name = "<init>" := hnm
  exact we_X14_init hnm _ _ _ _ _ _ _ _ _ _ hF X hP HA.rf hl
def P_X11_initX15 (BC BS : Nat) (a0 : Nat) (g : GT) (ι : S) (Q : GT → S → Prop) : Prop := (gK g a0 = 13 ∧ (Q g ι))
set_option maxHeartbeats 2000000 in
theorem we_X11_initX15 (hnm : meth.name = "<init>") {BC BS : Nat} {Q : GT → S → Prop} : ∀ (a0 : Nat) (g : GT) (ι : S) (ad : Nat → Nat) (H : Heap) (locs : List Loc) (ls : Array Slot), P_X11_initX15 BC BS a0 g ι Q → CX p s m args c meth cX11_init 1 none RX11 D dA ad A → PW D dA A s.heap ad (HS g ι) H locs → HA ad0 g0 ad g → LH ad ls 1 [(0, pX a0)] → WHv p l e ({ frames := 1, cells := BC, slots := BS, locals := 20 } : Room) s m args below meth c D dA ad0 g0 A Q BC BS H locs (0) (0) (F0 m 0 ls []) := by
  intro a0 g ι ad H locs ls hF X hP hag hl
  unfold P_X11_initX15 at hF
  refine ph_aload_n (n := 0) X hl dX11_init_0 rfl rfl ?_
  obtain ⟨hm1, hF⟩ := hF
  refine hg_obj X hl (cg_nz hP hm1 (by decide)) q1368 q146 (k8 := 0) (cs0 (k := 0)) (by decide) ⟨Nat.le_of_ble_eq_true rfl, Nat.le_of_ble_eq_true rfl⟩ dX11_init_1 ?_
  exact hg_vret X hP hag hF (Nat.zero_le _) (Nat.zero_le _) dX11_init_4
set_option maxHeartbeats 2000000 in
theorem met_X11_initX15 (l : Launch) (D : va_G) (dA : Nat → ClassId) (ad : Nat → Nat) (BC BS : Nat) (g : GT) (ι : S) (sz : Nat) {a0 : Nat} {Q : GT → S → Prop} (hF : P_X11_initX15 BC BS a0 g ι Q) : CHv l yX11_init cX11_init 1 ({ frames := 1, cells := BC, slots := BS, locals := 20 } : Room) D dA ad g ι sz [pX a0] Q BC BS := by
  refine ph_enter [pX a0] (Qc := fun A => HPv D dA ad g A Q) (by decide +kernel) (Nat.le_of_ble_eq_true rfl) ?_
  intro p e s m args below meth c A ls X hP hl hnm
  have hnm : meth.name = "<init>" := hnm
  exact we_X11_initX15 hnm _ _ _ _ _ _ _ hF X hP HA.rf hl
def P_X15_init (BC BS : Nat) (a0 : Nat) (a1 : Nat) (g : GT) (ι : S) (Q : GT → S → Prop) : Prop := (a1 < 200 + gN g ∧ (a0 < 200 + gN g ∧ ((0 ≤ BC ∧ 0 ≤ BS) ∧ (gK g a0 = 13 ∧ (P_X11_initX15 0 0 a0 g ι (fun g4 ι5 => (gK g4 a0 = 13 ∧ (∀ g10, g10 = setg g4 a0 0 a1 → (Q g10 ι5)))))))))
set_option maxHeartbeats 2000000 in
theorem we_X15_init (hnm : meth.name = "<init>") {BC BS : Nat} {Q : GT → S → Prop} : ∀ (a0 : Nat) (a1 : Nat) (g : GT) (ι : S) (ad : Nat → Nat) (H : Heap) (locs : List Loc) (ls : Array Slot), P_X15_init BC BS a0 a1 g ι Q → CX p s m args c meth cX15_init 2 none RX15 D dA ad A → PW D dA A s.heap ad (HS g ι) H locs → HA ad0 g0 ad g → LH ad ls 2 [(0, pX a0), (1, pX a1)] → WHv p l e ({ frames := 2, cells := BC, slots := BS, locals := 40 } : Room) s m args below meth c D dA ad0 g0 A Q BC BS H locs (0) (0) (F0 m 0 ls []) := by
  intro a0 a1 g ι ad H locs ls hF X hP hag hl
  unfold P_X15_init at hF
  refine ph_aload_n (n := 0) X hl dX15_init_0 rfl rfl ?_
  obtain ⟨hx1, hF⟩ := hF
  obtain ⟨hx2, hF⟩ := hF
  obtain ⟨hd3, hF⟩ := hF
  obtain ⟨hm12, hF⟩ := hF
  refine hg_callN [] [] X hP (cg_nz hP hm12 (by decide)) (met_X11_initX15 l D dA ad _ _ _ _ _ hF) (⟨va_cnB 0 X.2.2.2.2.1 (lw_meth q1367) rfl rfl rfl (X.2.2.2.2.2.2.1.2.1 _ q1447 rfl) (X.2.2.2.2.1 _ q130) (by decide +kernel) ⟨Nat.le_of_ble_eq_true rfl, Nat.le_of_ble_eq_true rfl⟩, rfl, X.2.2.2.2.1 _ q1366⟩) rfl hag hl (ltlp hx2 (ltlp hx1 ltln)) ltsn (k8 := 0) (cs0 (k := 0)) (by decide) hd3 dX15_init_1 rfl (fun ad g4 ι5 H locs hF X hP hag he6 hl => ?_)
  show WHv p l e ({ frames := 2, cells := BC, slots := BS, locals := 40 } : Room) s m args below meth c D dA ad0 g0 A Q BC BS H locs (0) (0) (F0 m 4 ls [])
  refine ph_aload_n (n := 0) X hl dX15_init_4 rfl rfl ?_
  refine ph_aload_n (n := 1) X hl dX15_init_5 rfl rfl ?_
  obtain ⟨hm9, hF⟩ := hF
  refine hg_putrF 12 0 X in_X15 tyX15 tyX15_ok nmX15 hP hm9 q1448 hnm dX15_init_6 (ltm hx1 he6) hF (fun H locs g10 hP he11 hF => ?_) (Or.inl ⟨_, rfl⟩)
  have hag : HA ad0 g0 ad g10 := ⟨by rw [he11.1]; exact hag.1, hag.2⟩
  exact hg_vret X hP hag hF (Nat.zero_le _) (Nat.zero_le _) dX15_init_9
set_option maxHeartbeats 2000000 in
theorem met_X15_init (l : Launch) (D : va_G) (dA : Nat → ClassId) (ad : Nat → Nat) (BC BS : Nat) (g : GT) (ι : S) (sz : Nat) {a0 : Nat} {a1 : Nat} {Q : GT → S → Prop} (hF : P_X15_init BC BS a0 a1 g ι Q) : CHv l yX15_init cX15_init 2 ({ frames := 2, cells := BC, slots := BS, locals := 40 } : Room) D dA ad g ι sz [pX a0, pX a1] Q BC BS := by
  refine ph_enter [pX a0, pX a1] (Qc := fun A => HPv D dA ad g A Q) (by decide +kernel) (Nat.le_of_ble_eq_true rfl) ?_
  intro p e s m args below meth c A ls X hP hl hnm
  have hnm : meth.name = "<init>" := hnm
  exact we_X15_init hnm _ _ _ _ _ _ _ _ hF X hP HA.rf hl
def P_X16_initX16 (BC BS : Nat) (a0 : Nat) (a1 : Int32) (a2 : Int32) (a3 : Int32) (a4 : Int32) (a5 : Int32) (a6 : Int32) (g : GT) (ι : S) (Q : GT → S → Prop) : Prop := (gK g a0 = 14 ∧ (∀ ι2, ι2 = up2 ι a0 0 a1 → (∀ ι3, ι3 = up2 ι2 a0 1 a2 → (∀ ι4, ι4 = up2 ι3 a0 2 a3 → (∀ ι5, ι5 = up2 ι4 a0 3 a4 → (∀ ι6, ι6 = up2 ι5 a0 4 a5 → (∀ ι7, ι7 = up2 ι6 a0 5 a6 → (Q g ι7))))))))
set_option maxHeartbeats 2000000 in
theorem we_X16_initX16 (hnm : meth.name = "<init>") {BC BS : Nat} {Q : GT → S → Prop} : ∀ (a0 : Nat) (a1 : Int32) (a2 : Int32) (a3 : Int32) (a4 : Int32) (a5 : Int32) (a6 : Int32) (g : GT) (ι : S) (ad : Nat → Nat) (H : Heap) (locs : List Loc) (ls : Array Slot), P_X16_initX16 BC BS a0 a1 a2 a3 a4 a5 a6 g ι Q → CX p s m args c meth cX16_init 7 none RX16 D dA ad A → PW D dA A s.heap ad (HS g ι) H locs → HA ad0 g0 ad g → LH ad ls 7 [(0, pX a0), (1, iX a1), (2, iX a2), (3, iX a3), (4, iX a4), (5, iX a5), (6, iX a6)] → WHv p l e ({ frames := 1, cells := BC, slots := BS, locals := 20 } : Room) s m args below meth c D dA ad0 g0 A Q BC BS H locs (0) (0) (F0 m 0 ls []) := by
  intro a0 a1 a2 a3 a4 a5 a6 g ι ad H locs ls hF X hP hag hl
  unfold P_X16_initX16 at hF
  refine ph_aload_n (n := 0) X hl dX16_init_0 rfl rfl ?_
  obtain ⟨hm1, hF⟩ := hF
  refine hg_obj X hl (cg_nz hP hm1 (by decide)) q1488 q146 (k8 := 0) (cs0 (k := 0)) (by decide) ⟨Nat.le_of_ble_eq_true rfl, Nat.le_of_ble_eq_true rfl⟩ dX16_init_1 ?_
  refine ph_aload_n (n := 0) X hl dX16_init_4 rfl rfl ?_
  refine ph_iload_n (n := 1) X hl dX16_init_5 rfl rfl ?_
  refine hg_putiF 13 0 X in_X16 tyX16 tyX16_ok nmX16 hP hm1 q1489 hnm dX16_init_6 rfl rfl hF (fun H locs ι2 hP hF => ?_)
  refine ph_aload_n (n := 0) X hl dX16_init_9 rfl rfl ?_
  refine ph_iload_n (n := 2) X hl dX16_init_10 rfl rfl ?_
  refine hg_putiF 13 1 X in_X16 tyX16 tyX16_ok nmX16 hP hm1 q1491 hnm dX16_init_11 rfl rfl hF (fun H locs ι3 hP hF => ?_)
  refine ph_aload_n (n := 0) X hl dX16_init_14 rfl rfl ?_
  refine ph_iload_n (n := 3) X hl dX16_init_15 rfl rfl ?_
  refine hg_putiF 13 2 X in_X16 tyX16 tyX16_ok nmX16 hP hm1 q1493 hnm dX16_init_16 rfl rfl hF (fun H locs ι4 hP hF => ?_)
  refine ph_aload_n (n := 0) X hl dX16_init_19 rfl rfl ?_
  refine ph_iload (n := 4) X hl dX16_init_20 rfl ?_
  refine hg_putiF 13 3 X in_X16 tyX16 tyX16_ok nmX16 hP hm1 q1496 hnm dX16_init_22 rfl rfl hF (fun H locs ι5 hP hF => ?_)
  refine ph_aload_n (n := 0) X hl dX16_init_25 rfl rfl ?_
  refine ph_iload (n := 5) X hl dX16_init_26 rfl ?_
  refine hg_putiF 13 4 X in_X16 tyX16 tyX16_ok nmX16 hP hm1 q1499 hnm dX16_init_28 rfl rfl hF (fun H locs ι6 hP hF => ?_)
  refine ph_aload_n (n := 0) X hl dX16_init_31 rfl rfl ?_
  refine ph_iload (n := 6) X hl dX16_init_32 rfl ?_
  refine hg_putiF 13 5 X in_X16 tyX16 tyX16_ok nmX16 hP hm1 q1501 hnm dX16_init_34 rfl rfl hF (fun H locs ι7 hP hF => ?_)
  exact hg_vret X hP hag hF (Nat.zero_le _) (Nat.zero_le _) dX16_init_37
set_option maxHeartbeats 2000000 in
theorem met_X16_initX16 (l : Launch) (D : va_G) (dA : Nat → ClassId) (ad : Nat → Nat) (BC BS : Nat) (g : GT) (ι : S) (sz : Nat) {a0 : Nat} {a1 : Int32} {a2 : Int32} {a3 : Int32} {a4 : Int32} {a5 : Int32} {a6 : Int32} {Q : GT → S → Prop} (hF : P_X16_initX16 BC BS a0 a1 a2 a3 a4 a5 a6 g ι Q) : CHv l yX16_init cX16_init 7 ({ frames := 1, cells := BC, slots := BS, locals := 20 } : Room) D dA ad g ι sz [pX a0, iX a1, iX a2, iX a3, iX a4, iX a5, iX a6] Q BC BS := by
  refine ph_enter [pX a0, iX a1, iX a2, iX a3, iX a4, iX a5, iX a6] (Qc := fun A => HPv D dA ad g A Q) (by decide +kernel) (Nat.le_of_ble_eq_true rfl) ?_
  intro p e s m args below meth c A ls X hP hl hnm
  have hnm : meth.name = "<init>" := hnm
  exact we_X16_initX16 hnm _ _ _ _ _ _ _ _ _ _ _ _ _ hF X hP HA.rf hl
def P_X16_initX17 (BC BS : Nat) (a0 : Nat) (a1 : Int32) (a2 : Int32) (a3 : Int32) (a4 : Int32) (a5 : Int32) (a6 : Int32) (g : GT) (ι : S) (Q : GT → S → Prop) : Prop := (gK g a0 = 15 ∧ (∀ ι2, ι2 = up2 ι a0 0 a1 → (∀ ι3, ι3 = up2 ι2 a0 1 a2 → (∀ ι4, ι4 = up2 ι3 a0 2 a3 → (∀ ι5, ι5 = up2 ι4 a0 3 a4 → (∀ ι6, ι6 = up2 ι5 a0 4 a5 → (∀ ι7, ι7 = up2 ι6 a0 5 a6 → (Q g ι7))))))))
set_option maxHeartbeats 2000000 in
theorem we_X16_initX17 (hnm : meth.name = "<init>") {BC BS : Nat} {Q : GT → S → Prop} : ∀ (a0 : Nat) (a1 : Int32) (a2 : Int32) (a3 : Int32) (a4 : Int32) (a5 : Int32) (a6 : Int32) (g : GT) (ι : S) (ad : Nat → Nat) (H : Heap) (locs : List Loc) (ls : Array Slot), P_X16_initX17 BC BS a0 a1 a2 a3 a4 a5 a6 g ι Q → CX p s m args c meth cX16_init 7 none RX16 D dA ad A → PW D dA A s.heap ad (HS g ι) H locs → HA ad0 g0 ad g → LH ad ls 7 [(0, pX a0), (1, iX a1), (2, iX a2), (3, iX a3), (4, iX a4), (5, iX a5), (6, iX a6)] → WHv p l e ({ frames := 1, cells := BC, slots := BS, locals := 20 } : Room) s m args below meth c D dA ad0 g0 A Q BC BS H locs (0) (0) (F0 m 0 ls []) := by
  intro a0 a1 a2 a3 a4 a5 a6 g ι ad H locs ls hF X hP hag hl
  unfold P_X16_initX17 at hF
  refine ph_aload_n (n := 0) X hl dX16_init_0 rfl rfl ?_
  obtain ⟨hm1, hF⟩ := hF
  refine hg_obj X hl (cg_nz hP hm1 (by decide)) q1488 q146 (k8 := 0) (cs0 (k := 0)) (by decide) ⟨Nat.le_of_ble_eq_true rfl, Nat.le_of_ble_eq_true rfl⟩ dX16_init_1 ?_
  refine ph_aload_n (n := 0) X hl dX16_init_4 rfl rfl ?_
  refine ph_iload_n (n := 1) X hl dX16_init_5 rfl rfl ?_
  refine hg_putiF 14 0 X in_X17 tyX17 tyX17_ok nmX17 hP hm1 q1489 hnm dX16_init_6 rfl rfl hF (fun H locs ι2 hP hF => ?_)
  refine ph_aload_n (n := 0) X hl dX16_init_9 rfl rfl ?_
  refine ph_iload_n (n := 2) X hl dX16_init_10 rfl rfl ?_
  refine hg_putiF 14 1 X in_X17 tyX17 tyX17_ok nmX17 hP hm1 q1491 hnm dX16_init_11 rfl rfl hF (fun H locs ι3 hP hF => ?_)
  refine ph_aload_n (n := 0) X hl dX16_init_14 rfl rfl ?_
  refine ph_iload_n (n := 3) X hl dX16_init_15 rfl rfl ?_
  refine hg_putiF 14 2 X in_X17 tyX17 tyX17_ok nmX17 hP hm1 q1493 hnm dX16_init_16 rfl rfl hF (fun H locs ι4 hP hF => ?_)
  refine ph_aload_n (n := 0) X hl dX16_init_19 rfl rfl ?_
  refine ph_iload (n := 4) X hl dX16_init_20 rfl ?_
  refine hg_putiF 14 3 X in_X17 tyX17 tyX17_ok nmX17 hP hm1 q1496 hnm dX16_init_22 rfl rfl hF (fun H locs ι5 hP hF => ?_)
  refine ph_aload_n (n := 0) X hl dX16_init_25 rfl rfl ?_
  refine ph_iload (n := 5) X hl dX16_init_26 rfl ?_
  refine hg_putiF 14 4 X in_X17 tyX17 tyX17_ok nmX17 hP hm1 q1499 hnm dX16_init_28 rfl rfl hF (fun H locs ι6 hP hF => ?_)
  refine ph_aload_n (n := 0) X hl dX16_init_31 rfl rfl ?_
  refine ph_iload (n := 6) X hl dX16_init_32 rfl ?_
  refine hg_putiF 14 5 X in_X17 tyX17 tyX17_ok nmX17 hP hm1 q1501 hnm dX16_init_34 rfl rfl hF (fun H locs ι7 hP hF => ?_)
  exact hg_vret X hP hag hF (Nat.zero_le _) (Nat.zero_le _) dX16_init_37
set_option maxHeartbeats 2000000 in
theorem met_X16_initX17 (l : Launch) (D : va_G) (dA : Nat → ClassId) (ad : Nat → Nat) (BC BS : Nat) (g : GT) (ι : S) (sz : Nat) {a0 : Nat} {a1 : Int32} {a2 : Int32} {a3 : Int32} {a4 : Int32} {a5 : Int32} {a6 : Int32} {Q : GT → S → Prop} (hF : P_X16_initX17 BC BS a0 a1 a2 a3 a4 a5 a6 g ι Q) : CHv l yX16_init cX16_init 7 ({ frames := 1, cells := BC, slots := BS, locals := 20 } : Room) D dA ad g ι sz [pX a0, iX a1, iX a2, iX a3, iX a4, iX a5, iX a6] Q BC BS := by
  refine ph_enter [pX a0, iX a1, iX a2, iX a3, iX a4, iX a5, iX a6] (Qc := fun A => HPv D dA ad g A Q) (by decide +kernel) (Nat.le_of_ble_eq_true rfl) ?_
  intro p e s m args below meth c A ls X hP hl hnm
  have hnm : meth.name = "<init>" := hnm
  exact we_X16_initX17 hnm _ _ _ _ _ _ _ _ _ _ _ _ _ hF X hP HA.rf hl
def P_X16_initX18 (BC BS : Nat) (a0 : Nat) (a1 : Int32) (a2 : Int32) (a3 : Int32) (a4 : Int32) (a5 : Int32) (a6 : Int32) (g : GT) (ι : S) (Q : GT → S → Prop) : Prop := (gK g a0 = 16 ∧ (∀ ι2, ι2 = up2 ι a0 0 a1 → (∀ ι3, ι3 = up2 ι2 a0 1 a2 → (∀ ι4, ι4 = up2 ι3 a0 2 a3 → (∀ ι5, ι5 = up2 ι4 a0 3 a4 → (∀ ι6, ι6 = up2 ι5 a0 4 a5 → (∀ ι7, ι7 = up2 ι6 a0 5 a6 → (Q g ι7))))))))
set_option maxHeartbeats 2000000 in
theorem we_X16_initX18 (hnm : meth.name = "<init>") {BC BS : Nat} {Q : GT → S → Prop} : ∀ (a0 : Nat) (a1 : Int32) (a2 : Int32) (a3 : Int32) (a4 : Int32) (a5 : Int32) (a6 : Int32) (g : GT) (ι : S) (ad : Nat → Nat) (H : Heap) (locs : List Loc) (ls : Array Slot), P_X16_initX18 BC BS a0 a1 a2 a3 a4 a5 a6 g ι Q → CX p s m args c meth cX16_init 7 none RX16 D dA ad A → PW D dA A s.heap ad (HS g ι) H locs → HA ad0 g0 ad g → LH ad ls 7 [(0, pX a0), (1, iX a1), (2, iX a2), (3, iX a3), (4, iX a4), (5, iX a5), (6, iX a6)] → WHv p l e ({ frames := 1, cells := BC, slots := BS, locals := 20 } : Room) s m args below meth c D dA ad0 g0 A Q BC BS H locs (0) (0) (F0 m 0 ls []) := by
  intro a0 a1 a2 a3 a4 a5 a6 g ι ad H locs ls hF X hP hag hl
  unfold P_X16_initX18 at hF
  refine ph_aload_n (n := 0) X hl dX16_init_0 rfl rfl ?_
  obtain ⟨hm1, hF⟩ := hF
  refine hg_obj X hl (cg_nz hP hm1 (by decide)) q1488 q146 (k8 := 0) (cs0 (k := 0)) (by decide) ⟨Nat.le_of_ble_eq_true rfl, Nat.le_of_ble_eq_true rfl⟩ dX16_init_1 ?_
  refine ph_aload_n (n := 0) X hl dX16_init_4 rfl rfl ?_
  refine ph_iload_n (n := 1) X hl dX16_init_5 rfl rfl ?_
  refine hg_putiF 15 0 X in_X18 tyX18 tyX18_ok nmX18 hP hm1 q1489 hnm dX16_init_6 rfl rfl hF (fun H locs ι2 hP hF => ?_)
  refine ph_aload_n (n := 0) X hl dX16_init_9 rfl rfl ?_
  refine ph_iload_n (n := 2) X hl dX16_init_10 rfl rfl ?_
  refine hg_putiF 15 1 X in_X18 tyX18 tyX18_ok nmX18 hP hm1 q1491 hnm dX16_init_11 rfl rfl hF (fun H locs ι3 hP hF => ?_)
  refine ph_aload_n (n := 0) X hl dX16_init_14 rfl rfl ?_
  refine ph_iload_n (n := 3) X hl dX16_init_15 rfl rfl ?_
  refine hg_putiF 15 2 X in_X18 tyX18 tyX18_ok nmX18 hP hm1 q1493 hnm dX16_init_16 rfl rfl hF (fun H locs ι4 hP hF => ?_)
  refine ph_aload_n (n := 0) X hl dX16_init_19 rfl rfl ?_
  refine ph_iload (n := 4) X hl dX16_init_20 rfl ?_
  refine hg_putiF 15 3 X in_X18 tyX18 tyX18_ok nmX18 hP hm1 q1496 hnm dX16_init_22 rfl rfl hF (fun H locs ι5 hP hF => ?_)
  refine ph_aload_n (n := 0) X hl dX16_init_25 rfl rfl ?_
  refine ph_iload (n := 5) X hl dX16_init_26 rfl ?_
  refine hg_putiF 15 4 X in_X18 tyX18 tyX18_ok nmX18 hP hm1 q1499 hnm dX16_init_28 rfl rfl hF (fun H locs ι6 hP hF => ?_)
  refine ph_aload_n (n := 0) X hl dX16_init_31 rfl rfl ?_
  refine ph_iload (n := 6) X hl dX16_init_32 rfl ?_
  refine hg_putiF 15 5 X in_X18 tyX18 tyX18_ok nmX18 hP hm1 q1501 hnm dX16_init_34 rfl rfl hF (fun H locs ι7 hP hF => ?_)
  exact hg_vret X hP hag hF (Nat.zero_le _) (Nat.zero_le _) dX16_init_37
set_option maxHeartbeats 2000000 in
theorem met_X16_initX18 (l : Launch) (D : va_G) (dA : Nat → ClassId) (ad : Nat → Nat) (BC BS : Nat) (g : GT) (ι : S) (sz : Nat) {a0 : Nat} {a1 : Int32} {a2 : Int32} {a3 : Int32} {a4 : Int32} {a5 : Int32} {a6 : Int32} {Q : GT → S → Prop} (hF : P_X16_initX18 BC BS a0 a1 a2 a3 a4 a5 a6 g ι Q) : CHv l yX16_init cX16_init 7 ({ frames := 1, cells := BC, slots := BS, locals := 20 } : Room) D dA ad g ι sz [pX a0, iX a1, iX a2, iX a3, iX a4, iX a5, iX a6] Q BC BS := by
  refine ph_enter [pX a0, iX a1, iX a2, iX a3, iX a4, iX a5, iX a6] (Qc := fun A => HPv D dA ad g A Q) (by decide +kernel) (Nat.le_of_ble_eq_true rfl) ?_
  intro p e s m args below meth c A ls X hP hl hnm
  have hnm : meth.name = "<init>" := hnm
  exact we_X16_initX18 hnm _ _ _ _ _ _ _ _ _ _ _ _ _ hF X hP HA.rf hl
def P_X16_initX19 (BC BS : Nat) (a0 : Nat) (a1 : Int32) (a2 : Int32) (a3 : Int32) (a4 : Int32) (a5 : Int32) (a6 : Int32) (g : GT) (ι : S) (Q : GT → S → Prop) : Prop := (gK g a0 = 17 ∧ (∀ ι2, ι2 = up2 ι a0 0 a1 → (∀ ι3, ι3 = up2 ι2 a0 1 a2 → (∀ ι4, ι4 = up2 ι3 a0 2 a3 → (∀ ι5, ι5 = up2 ι4 a0 3 a4 → (∀ ι6, ι6 = up2 ι5 a0 4 a5 → (∀ ι7, ι7 = up2 ι6 a0 5 a6 → (Q g ι7))))))))
set_option maxHeartbeats 2000000 in
theorem we_X16_initX19 (hnm : meth.name = "<init>") {BC BS : Nat} {Q : GT → S → Prop} : ∀ (a0 : Nat) (a1 : Int32) (a2 : Int32) (a3 : Int32) (a4 : Int32) (a5 : Int32) (a6 : Int32) (g : GT) (ι : S) (ad : Nat → Nat) (H : Heap) (locs : List Loc) (ls : Array Slot), P_X16_initX19 BC BS a0 a1 a2 a3 a4 a5 a6 g ι Q → CX p s m args c meth cX16_init 7 none RX16 D dA ad A → PW D dA A s.heap ad (HS g ι) H locs → HA ad0 g0 ad g → LH ad ls 7 [(0, pX a0), (1, iX a1), (2, iX a2), (3, iX a3), (4, iX a4), (5, iX a5), (6, iX a6)] → WHv p l e ({ frames := 1, cells := BC, slots := BS, locals := 20 } : Room) s m args below meth c D dA ad0 g0 A Q BC BS H locs (0) (0) (F0 m 0 ls []) := by
  intro a0 a1 a2 a3 a4 a5 a6 g ι ad H locs ls hF X hP hag hl
  unfold P_X16_initX19 at hF
  refine ph_aload_n (n := 0) X hl dX16_init_0 rfl rfl ?_
  obtain ⟨hm1, hF⟩ := hF
  refine hg_obj X hl (cg_nz hP hm1 (by decide)) q1488 q146 (k8 := 0) (cs0 (k := 0)) (by decide) ⟨Nat.le_of_ble_eq_true rfl, Nat.le_of_ble_eq_true rfl⟩ dX16_init_1 ?_
  refine ph_aload_n (n := 0) X hl dX16_init_4 rfl rfl ?_
  refine ph_iload_n (n := 1) X hl dX16_init_5 rfl rfl ?_
  refine hg_putiF 16 0 X in_X19 tyX19 tyX19_ok nmX19 hP hm1 q1489 hnm dX16_init_6 rfl rfl hF (fun H locs ι2 hP hF => ?_)
  refine ph_aload_n (n := 0) X hl dX16_init_9 rfl rfl ?_
  refine ph_iload_n (n := 2) X hl dX16_init_10 rfl rfl ?_
  refine hg_putiF 16 1 X in_X19 tyX19 tyX19_ok nmX19 hP hm1 q1491 hnm dX16_init_11 rfl rfl hF (fun H locs ι3 hP hF => ?_)
  refine ph_aload_n (n := 0) X hl dX16_init_14 rfl rfl ?_
  refine ph_iload_n (n := 3) X hl dX16_init_15 rfl rfl ?_
  refine hg_putiF 16 2 X in_X19 tyX19 tyX19_ok nmX19 hP hm1 q1493 hnm dX16_init_16 rfl rfl hF (fun H locs ι4 hP hF => ?_)
  refine ph_aload_n (n := 0) X hl dX16_init_19 rfl rfl ?_
  refine ph_iload (n := 4) X hl dX16_init_20 rfl ?_
  refine hg_putiF 16 3 X in_X19 tyX19 tyX19_ok nmX19 hP hm1 q1496 hnm dX16_init_22 rfl rfl hF (fun H locs ι5 hP hF => ?_)
  refine ph_aload_n (n := 0) X hl dX16_init_25 rfl rfl ?_
  refine ph_iload (n := 5) X hl dX16_init_26 rfl ?_
  refine hg_putiF 16 4 X in_X19 tyX19 tyX19_ok nmX19 hP hm1 q1499 hnm dX16_init_28 rfl rfl hF (fun H locs ι6 hP hF => ?_)
  refine ph_aload_n (n := 0) X hl dX16_init_31 rfl rfl ?_
  refine ph_iload (n := 6) X hl dX16_init_32 rfl ?_
  refine hg_putiF 16 5 X in_X19 tyX19 tyX19_ok nmX19 hP hm1 q1501 hnm dX16_init_34 rfl rfl hF (fun H locs ι7 hP hF => ?_)
  exact hg_vret X hP hag hF (Nat.zero_le _) (Nat.zero_le _) dX16_init_37
set_option maxHeartbeats 2000000 in
theorem met_X16_initX19 (l : Launch) (D : va_G) (dA : Nat → ClassId) (ad : Nat → Nat) (BC BS : Nat) (g : GT) (ι : S) (sz : Nat) {a0 : Nat} {a1 : Int32} {a2 : Int32} {a3 : Int32} {a4 : Int32} {a5 : Int32} {a6 : Int32} {Q : GT → S → Prop} (hF : P_X16_initX19 BC BS a0 a1 a2 a3 a4 a5 a6 g ι Q) : CHv l yX16_init cX16_init 7 ({ frames := 1, cells := BC, slots := BS, locals := 20 } : Room) D dA ad g ι sz [pX a0, iX a1, iX a2, iX a3, iX a4, iX a5, iX a6] Q BC BS := by
  refine ph_enter [pX a0, iX a1, iX a2, iX a3, iX a4, iX a5, iX a6] (Qc := fun A => HPv D dA ad g A Q) (by decide +kernel) (Nat.le_of_ble_eq_true rfl) ?_
  intro p e s m args below meth c A ls X hP hl hnm
  have hnm : meth.name = "<init>" := hnm
  exact we_X16_initX19 hnm _ _ _ _ _ _ _ _ _ _ _ _ _ hF X hP HA.rf hl
def P_X17_initX17 (BC BS : Nat) (a0 : Nat) (a1 : Int32) (a2 : Int32) (a3 : Int32) (a4 : Int32) (a5 : Int32) (a6 : Int32) (g : GT) (ι : S) (Q : GT → S → Prop) : Prop := ((0 ≤ BC ∧ 0 ≤ BS) ∧ (gK g a0 = 15 ∧ (P_X16_initX17 0 0 a0 a1 a2 a3 a4 a5 a6 g ι (fun g2 ι3 => (Q g2 ι3)))))
set_option maxHeartbeats 2000000 in
theorem we_X17_initX17 (hnm : meth.name = "<init>") {BC BS : Nat} {Q : GT → S → Prop} : ∀ (a0 : Nat) (a1 : Int32) (a2 : Int32) (a3 : Int32) (a4 : Int32) (a5 : Int32) (a6 : Int32) (g : GT) (ι : S) (ad : Nat → Nat) (H : Heap) (locs : List Loc) (ls : Array Slot), P_X17_initX17 BC BS a0 a1 a2 a3 a4 a5 a6 g ι Q → CX p s m args c meth cX17_init 7 none RX17 D dA ad A → PW D dA A s.heap ad (HS g ι) H locs → HA ad0 g0 ad g → LH ad ls 7 [(0, pX a0), (1, iX a1), (2, iX a2), (3, iX a3), (4, iX a4), (5, iX a5), (6, iX a6)] → WHv p l e ({ frames := 2, cells := BC, slots := BS, locals := 46 } : Room) s m args below meth c D dA ad0 g0 A Q BC BS H locs (0) (0) (F0 m 0 ls []) := by
  intro a0 a1 a2 a3 a4 a5 a6 g ι ad H locs ls hF X hP hag hl
  unfold P_X17_initX17 at hF
  refine ph_aload_n (n := 0) X hl dX17_init_0 rfl rfl ?_
  refine ph_iload_n (n := 1) X hl dX17_init_1 rfl rfl ?_
  refine ph_iload_n (n := 2) X hl dX17_init_2 rfl rfl ?_
  refine ph_iload_n (n := 3) X hl dX17_init_3 rfl rfl ?_
  refine ph_iload (n := 4) X hl dX17_init_4 rfl ?_
  refine ph_iload (n := 5) X hl dX17_init_6 rfl ?_
  refine ph_iload (n := 6) X hl dX17_init_8 rfl ?_
  obtain ⟨hd1, hF⟩ := hF
  obtain ⟨hm7, hF⟩ := hF
  have hl : LH ad ls 7 [] := lh_sub hl [] rfl
  refine hg_callI [iX a1, iX a2, iX a3, iX a4, iX a5, iX a6] [] X hP (cg_nz hP hm7 (by decide)) (met_X16_initX17 l D dA ad _ _ _ _ _ hF) (cwI 6 X.2.2.2.2.1 (lw_meth q1487) rfl rfl rfl (X.2.2.2.2.1 _ q135) (X.2.2.2.2.1 _ q1485) (X.2.2.2.2.1 _ q1486) rfl (by decide +kernel) ⟨Nat.le_of_ble_eq_true rfl, Nat.le_of_ble_eq_true rfl⟩) rfl hag hl ltln ltsn (k8 := 0) (cs0 (k := 0)) (by decide) hd1 dX17_init_10 rfl (fun ad g2 ι3 H locs hF X hP hag he4 hl => ?_)
  show WHv p l e ({ frames := 2, cells := BC, slots := BS, locals := 46 } : Room) s m args below meth c D dA ad0 g0 A Q BC BS H locs (0) (0) (F0 m 13 ls [])
  exact hg_vret X hP hag hF (Nat.zero_le _) (Nat.zero_le _) dX17_init_13
set_option maxHeartbeats 2000000 in
theorem met_X17_initX17 (l : Launch) (D : va_G) (dA : Nat → ClassId) (ad : Nat → Nat) (BC BS : Nat) (g : GT) (ι : S) (sz : Nat) {a0 : Nat} {a1 : Int32} {a2 : Int32} {a3 : Int32} {a4 : Int32} {a5 : Int32} {a6 : Int32} {Q : GT → S → Prop} (hF : P_X17_initX17 BC BS a0 a1 a2 a3 a4 a5 a6 g ι Q) : CHv l yX17_init cX17_init 7 ({ frames := 2, cells := BC, slots := BS, locals := 46 } : Room) D dA ad g ι sz [pX a0, iX a1, iX a2, iX a3, iX a4, iX a5, iX a6] Q BC BS := by
  refine ph_enter [pX a0, iX a1, iX a2, iX a3, iX a4, iX a5, iX a6] (Qc := fun A => HPv D dA ad g A Q) (by decide +kernel) (Nat.le_of_ble_eq_true rfl) ?_
  intro p e s m args below meth c A ls X hP hl hnm
  have hnm : meth.name = "<init>" := hnm
  exact we_X17_initX17 hnm _ _ _ _ _ _ _ _ _ _ _ _ _ hF X hP HA.rf hl
def P_X17_initX18 (BC BS : Nat) (a0 : Nat) (a1 : Int32) (a2 : Int32) (a3 : Int32) (a4 : Int32) (a5 : Int32) (a6 : Int32) (g : GT) (ι : S) (Q : GT → S → Prop) : Prop := ((0 ≤ BC ∧ 0 ≤ BS) ∧ (gK g a0 = 16 ∧ (P_X16_initX18 0 0 a0 a1 a2 a3 a4 a5 a6 g ι (fun g2 ι3 => (Q g2 ι3)))))
set_option maxHeartbeats 2000000 in
theorem we_X17_initX18 (hnm : meth.name = "<init>") {BC BS : Nat} {Q : GT → S → Prop} : ∀ (a0 : Nat) (a1 : Int32) (a2 : Int32) (a3 : Int32) (a4 : Int32) (a5 : Int32) (a6 : Int32) (g : GT) (ι : S) (ad : Nat → Nat) (H : Heap) (locs : List Loc) (ls : Array Slot), P_X17_initX18 BC BS a0 a1 a2 a3 a4 a5 a6 g ι Q → CX p s m args c meth cX17_init 7 none RX17 D dA ad A → PW D dA A s.heap ad (HS g ι) H locs → HA ad0 g0 ad g → LH ad ls 7 [(0, pX a0), (1, iX a1), (2, iX a2), (3, iX a3), (4, iX a4), (5, iX a5), (6, iX a6)] → WHv p l e ({ frames := 2, cells := BC, slots := BS, locals := 46 } : Room) s m args below meth c D dA ad0 g0 A Q BC BS H locs (0) (0) (F0 m 0 ls []) := by
  intro a0 a1 a2 a3 a4 a5 a6 g ι ad H locs ls hF X hP hag hl
  unfold P_X17_initX18 at hF
  refine ph_aload_n (n := 0) X hl dX17_init_0 rfl rfl ?_
  refine ph_iload_n (n := 1) X hl dX17_init_1 rfl rfl ?_
  refine ph_iload_n (n := 2) X hl dX17_init_2 rfl rfl ?_
  refine ph_iload_n (n := 3) X hl dX17_init_3 rfl rfl ?_
  refine ph_iload (n := 4) X hl dX17_init_4 rfl ?_
  refine ph_iload (n := 5) X hl dX17_init_6 rfl ?_
  refine ph_iload (n := 6) X hl dX17_init_8 rfl ?_
  obtain ⟨hd1, hF⟩ := hF
  obtain ⟨hm7, hF⟩ := hF
  have hl : LH ad ls 7 [] := lh_sub hl [] rfl
  refine hg_callI [iX a1, iX a2, iX a3, iX a4, iX a5, iX a6] [] X hP (cg_nz hP hm7 (by decide)) (met_X16_initX18 l D dA ad _ _ _ _ _ hF) (cwI 6 X.2.2.2.2.1 (lw_meth q1487) rfl rfl rfl (X.2.2.2.2.1 _ q135) (X.2.2.2.2.1 _ q1485) (X.2.2.2.2.1 _ q1486) rfl (by decide +kernel) ⟨Nat.le_of_ble_eq_true rfl, Nat.le_of_ble_eq_true rfl⟩) rfl hag hl ltln ltsn (k8 := 0) (cs0 (k := 0)) (by decide) hd1 dX17_init_10 rfl (fun ad g2 ι3 H locs hF X hP hag he4 hl => ?_)
  show WHv p l e ({ frames := 2, cells := BC, slots := BS, locals := 46 } : Room) s m args below meth c D dA ad0 g0 A Q BC BS H locs (0) (0) (F0 m 13 ls [])
  exact hg_vret X hP hag hF (Nat.zero_le _) (Nat.zero_le _) dX17_init_13
set_option maxHeartbeats 2000000 in
theorem met_X17_initX18 (l : Launch) (D : va_G) (dA : Nat → ClassId) (ad : Nat → Nat) (BC BS : Nat) (g : GT) (ι : S) (sz : Nat) {a0 : Nat} {a1 : Int32} {a2 : Int32} {a3 : Int32} {a4 : Int32} {a5 : Int32} {a6 : Int32} {Q : GT → S → Prop} (hF : P_X17_initX18 BC BS a0 a1 a2 a3 a4 a5 a6 g ι Q) : CHv l yX17_init cX17_init 7 ({ frames := 2, cells := BC, slots := BS, locals := 46 } : Room) D dA ad g ι sz [pX a0, iX a1, iX a2, iX a3, iX a4, iX a5, iX a6] Q BC BS := by
  refine ph_enter [pX a0, iX a1, iX a2, iX a3, iX a4, iX a5, iX a6] (Qc := fun A => HPv D dA ad g A Q) (by decide +kernel) (Nat.le_of_ble_eq_true rfl) ?_
  intro p e s m args below meth c A ls X hP hl hnm
  have hnm : meth.name = "<init>" := hnm
  exact we_X17_initX18 hnm _ _ _ _ _ _ _ _ _ _ _ _ _ hF X hP HA.rf hl
def P_X18_init (BC BS : Nat) (a0 : Nat) (a1 : Int32) (g : GT) (ι : S) (Q : GT → S → Prop) : Prop := ((0 ≤ BC ∧ 0 ≤ BS) ∧ (gK g a0 = 16 ∧ (P_X17_initX18 0 0 a0 0 0 0 a1 0 0 g ι (fun g2 ι3 => (Q g2 ι3)))))
set_option maxHeartbeats 2000000 in
theorem we_X18_init (hnm : meth.name = "<init>") {BC BS : Nat} {Q : GT → S → Prop} : ∀ (a0 : Nat) (a1 : Int32) (g : GT) (ι : S) (ad : Nat → Nat) (H : Heap) (locs : List Loc) (ls : Array Slot), P_X18_init BC BS a0 a1 g ι Q → CX p s m args c meth cX18_init 2 none RX18 D dA ad A → PW D dA A s.heap ad (HS g ι) H locs → HA ad0 g0 ad g → LH ad ls 2 [(0, pX a0), (1, iX a1)] → WHv p l e ({ frames := 3, cells := BC, slots := BS, locals := 72 } : Room) s m args below meth c D dA ad0 g0 A Q BC BS H locs (0) (0) (F0 m 0 ls []) := by
  intro a0 a1 g ι ad H locs ls hF X hP hag hl
  unfold P_X18_init at hF
  refine ph_aload_n (n := 0) X hl dX18_init_0 rfl rfl ?_
  refine lv_iconst (v := 0) X.1 X.2.1 dX18_init_1 (by decide) ?_
  refine lv_iconst (v := 0) X.1 X.2.1 dX18_init_2 (by decide) ?_
  refine lv_iconst (v := 0) X.1 X.2.1 dX18_init_3 (by decide) ?_
  refine ph_iload_n (n := 1) X hl dX18_init_4 rfl rfl ?_
  refine lv_iconst (v := 0) X.1 X.2.1 dX18_init_5 (by decide) ?_
  refine lv_iconst (v := 0) X.1 X.2.1 dX18_init_6 (by decide) ?_
  obtain ⟨hd1, hF⟩ := hF
  obtain ⟨hm7, hF⟩ := hF
  have hl : LH ad ls 2 [] := lh_sub hl [] rfl
  refine hg_callI [iX 0, iX 0, iX 0, iX a1, iX 0, iX 0] [] X hP (cg_nz hP hm7 (by decide)) (met_X17_initX18 l D dA ad _ _ _ _ _ hF) (cwI 6 X.2.2.2.2.1 (lw_meth q1484) rfl rfl rfl (X.2.2.2.2.1 _ q136) (X.2.2.2.2.1 _ q1482) (X.2.2.2.2.1 _ q1483) rfl (by decide +kernel) ⟨Nat.le_of_ble_eq_true rfl, Nat.le_of_ble_eq_true rfl⟩) rfl hag hl ltln ltsn (k8 := 0) (cs0 (k := 0)) (by decide) hd1 dX18_init_7 rfl (fun ad g2 ι3 H locs hF X hP hag he4 hl => ?_)
  show WHv p l e ({ frames := 3, cells := BC, slots := BS, locals := 72 } : Room) s m args below meth c D dA ad0 g0 A Q BC BS H locs (0) (0) (F0 m 10 ls [])
  exact hg_vret X hP hag hF (Nat.zero_le _) (Nat.zero_le _) dX18_init_10
set_option maxHeartbeats 2000000 in
theorem met_X18_init (l : Launch) (D : va_G) (dA : Nat → ClassId) (ad : Nat → Nat) (BC BS : Nat) (g : GT) (ι : S) (sz : Nat) {a0 : Nat} {a1 : Int32} {Q : GT → S → Prop} (hF : P_X18_init BC BS a0 a1 g ι Q) : CHv l yX18_init cX18_init 2 ({ frames := 3, cells := BC, slots := BS, locals := 72 } : Room) D dA ad g ι sz [pX a0, iX a1] Q BC BS := by
  refine ph_enter [pX a0, iX a1] (Qc := fun A => HPv D dA ad g A Q) (by decide +kernel) (Nat.le_of_ble_eq_true rfl) ?_
  intro p e s m args below meth c A ls X hP hl hnm
  have hnm : meth.name = "<init>" := hnm
  exact we_X18_init hnm _ _ _ _ _ _ _ _ hF X hP HA.rf hl
def P_X19_init (BC BS : Nat) (a0 : Nat) (a1 : Int32) (a2 : Int32) (a3 : Int32) (a4 : Int32) (a5 : Int32) (a6 : Int32) (g : GT) (ι : S) (Q : GT → S → Prop) : Prop := ((0 ≤ BC ∧ 0 ≤ BS) ∧ (gK g a0 = 17 ∧ (P_X16_initX19 0 0 a0 a1 a2 a3 a4 a5 a6 g ι (fun g2 ι3 => (Q g2 ι3)))))
set_option maxHeartbeats 2000000 in
theorem we_X19_init (hnm : meth.name = "<init>") {BC BS : Nat} {Q : GT → S → Prop} : ∀ (a0 : Nat) (a1 : Int32) (a2 : Int32) (a3 : Int32) (a4 : Int32) (a5 : Int32) (a6 : Int32) (g : GT) (ι : S) (ad : Nat → Nat) (H : Heap) (locs : List Loc) (ls : Array Slot), P_X19_init BC BS a0 a1 a2 a3 a4 a5 a6 g ι Q → CX p s m args c meth cX19_init 7 none RX19 D dA ad A → PW D dA A s.heap ad (HS g ι) H locs → HA ad0 g0 ad g → LH ad ls 7 [(0, pX a0), (1, iX a1), (2, iX a2), (3, iX a3), (4, iX a4), (5, iX a5), (6, iX a6)] → WHv p l e ({ frames := 2, cells := BC, slots := BS, locals := 46 } : Room) s m args below meth c D dA ad0 g0 A Q BC BS H locs (0) (0) (F0 m 0 ls []) := by
  intro a0 a1 a2 a3 a4 a5 a6 g ι ad H locs ls hF X hP hag hl
  unfold P_X19_init at hF
  refine ph_aload_n (n := 0) X hl dX19_init_0 rfl rfl ?_
  refine ph_iload_n (n := 1) X hl dX19_init_1 rfl rfl ?_
  refine ph_iload_n (n := 2) X hl dX19_init_2 rfl rfl ?_
  refine ph_iload_n (n := 3) X hl dX19_init_3 rfl rfl ?_
  refine ph_iload (n := 4) X hl dX19_init_4 rfl ?_
  refine ph_iload (n := 5) X hl dX19_init_6 rfl ?_
  refine ph_iload (n := 6) X hl dX19_init_8 rfl ?_
  obtain ⟨hd1, hF⟩ := hF
  obtain ⟨hm7, hF⟩ := hF
  have hl : LH ad ls 7 [] := lh_sub hl [] rfl
  refine hg_callI [iX a1, iX a2, iX a3, iX a4, iX a5, iX a6] [] X hP (cg_nz hP hm7 (by decide)) (met_X16_initX19 l D dA ad _ _ _ _ _ hF) (cwI 6 X.2.2.2.2.1 (lw_meth q1487) rfl rfl rfl (X.2.2.2.2.1 _ q135) (X.2.2.2.2.1 _ q1530) (X.2.2.2.2.1 _ q1486) rfl (by decide +kernel) ⟨Nat.le_of_ble_eq_true rfl, Nat.le_of_ble_eq_true rfl⟩) rfl hag hl ltln ltsn (k8 := 0) (cs0 (k := 0)) (by decide) hd1 dX19_init_10 rfl (fun ad g2 ι3 H locs hF X hP hag he4 hl => ?_)
  show WHv p l e ({ frames := 2, cells := BC, slots := BS, locals := 46 } : Room) s m args below meth c D dA ad0 g0 A Q BC BS H locs (0) (0) (F0 m 13 ls [])
  exact hg_vret X hP hag hF (Nat.zero_le _) (Nat.zero_le _) dX19_init_13
set_option maxHeartbeats 2000000 in
theorem met_X19_init (l : Launch) (D : va_G) (dA : Nat → ClassId) (ad : Nat → Nat) (BC BS : Nat) (g : GT) (ι : S) (sz : Nat) {a0 : Nat} {a1 : Int32} {a2 : Int32} {a3 : Int32} {a4 : Int32} {a5 : Int32} {a6 : Int32} {Q : GT → S → Prop} (hF : P_X19_init BC BS a0 a1 a2 a3 a4 a5 a6 g ι Q) : CHv l yX19_init cX19_init 7 ({ frames := 2, cells := BC, slots := BS, locals := 46 } : Room) D dA ad g ι sz [pX a0, iX a1, iX a2, iX a3, iX a4, iX a5, iX a6] Q BC BS := by
  refine ph_enter [pX a0, iX a1, iX a2, iX a3, iX a4, iX a5, iX a6] (Qc := fun A => HPv D dA ad g A Q) (by decide +kernel) (Nat.le_of_ble_eq_true rfl) ?_
  intro p e s m args below meth c A ls X hP hl hnm
  have hnm : meth.name = "<init>" := hnm
  exact we_X19_init hnm _ _ _ _ _ _ _ _ _ _ _ _ _ hF X hP HA.rf hl
end HGA
