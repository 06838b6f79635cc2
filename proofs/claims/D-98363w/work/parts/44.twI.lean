set_option maxRecDepth 100000
section HGA
variable {p : Program} {l : Launch} {e : Env} {s : State} {m : MethodId} {args : Array Value} {below : List Frame} {meth : Method} {c : Code} {D : va_G} {dA : Nat → ClassId} {ad0 : Nat → Nat} {A : Nat → Prop} {g0 : GT}
def P_X8_init (BC BS : Nat) (a0 : Nat) (g : GT) (ι : S) (Q : GT → S → Prop) : Prop := (gK g a0 = 1 ∧ (a0 < 200 + gN g ∧ ((1 ≤ BC ∧ 3 ≤ BS) ∧ (∀ g4 ι5, g4 = newg g 111 3 → ι5 = newi g ι → (vp_in 0 (gL g4 (200 + gN g)) ∧ (∀ g9, g9 = setg g4 (200 + gN g) 0 13 → (vp_in 1 (gL g9 (200 + gN g)) ∧ (∀ g12, g12 = setg g9 (200 + gN g) 1 15 → (vp_in 2 (gL g12 (200 + gN g)) ∧ (∀ g15, g15 = setg g12 (200 + gN g) 2 17 → (∀ g17, g17 = setg g15 a0 0 (200 + gN g) → ((2 ≤ BC ∧ 10 ≤ BS) ∧ (∀ g21 ι22, g21 = newg g17 111 7 → ι22 = newi g17 ι5 → (vp_in 0 (gL g21 (200 + gN g17)) ∧ (∀ g26, g26 = setg g21 (200 + gN g17) 0 45 → (vp_in 1 (gL g26 (200 + gN g17)) ∧ (∀ g29, g29 = setg g26 (200 + gN g17) 1 47 → (vp_in 2 (gL g29 (200 + gN g17)) ∧ (∀ g32, g32 = setg g29 (200 + gN g17) 2 49 → (vp_in 3 (gL g32 (200 + gN g17)) ∧ (∀ g35, g35 = setg g32 (200 + gN g17) 3 51 → (vp_in 4 (gL g35 (200 + gN g17)) ∧ (∀ g38, g38 = setg g35 (200 + gN g17) 4 53 → (vp_in 5 (gL g38 (200 + gN g17)) ∧ (∀ g41, g41 = setg g38 (200 + gN g17) 5 55 → (vp_in 6 (gL g41 (200 + gN g17)) ∧ (∀ g45, g45 = setg g41 (200 + gN g17) 6 57 → (∀ g49, g49 = setg g45 a0 1 (200 + gN g17) → ((3 ≤ BC ∧ 26 ≤ BS) ∧ (∀ g53 ι54, g53 = newg g49 100 16 → ι54 = newi g49 ι22 → (vp_in 0 (gL g53 (200 + gN g49)) ∧ (∀ ι57, ι57 = up2 ι54 (200 + gN g49) 0 0 → (vp_in 1 (gL g53 (200 + gN g49)) ∧ (∀ ι59, ι59 = up2 ι57 (200 + gN g49) 1 20 → (vp_in 2 (gL g53 (200 + gN g49)) ∧ (∀ ι61, ι61 = up2 ι59 (200 + gN g49) 2 3 → (vp_in 3 (gL g53 (200 + gN g49)) ∧ (∀ ι63, ι63 = up2 ι61 (200 + gN g49) 3 480 → (vp_in 4 (gL g53 (200 + gN g49)) ∧ (∀ ι65, ι65 = up2 ι63 (200 + gN g49) 4 15 → (vp_in 5 (gL g53 (200 + gN g49)) ∧ (∀ ι67, ι67 = up2 ι65 (200 + gN g49) 5 0 → (vp_in 6 (gL g53 (200 + gN g49)) ∧ (∀ ι69, ι69 = up2 ι67 (200 + gN g49) 6 0 → (vp_in 7 (gL g53 (200 + gN g49)) ∧ (∀ ι71, ι71 = up2 ι69 (200 + gN g49) 7 0 → (vp_in 8 (gL g53 (200 + gN g49)) ∧ (∀ ι73, ι73 = up2 ι71 (200 + gN g49) 8 0 → (vp_in 9 (gL g53 (200 + gN g49)) ∧ (∀ ι75, ι75 = up2 ι73 (200 + gN g49) 9 20 → (vp_in 10 (gL g53 (200 + gN g49)) ∧ (∀ ι77, ι77 = up2 ι75 (200 + gN g49) 10 3 → (vp_in 11 (gL g53 (200 + gN g49)) ∧ (∀ ι79, ι79 = up2 ι77 (200 + gN g49) 11 480 → (vp_in 12 (gL g53 (200 + gN g49)) ∧ (∀ ι81, ι81 = up2 ι79 (200 + gN g49) 12 15 → (vp_in 13 (gL g53 (200 + gN g49)) ∧ (∀ ι83, ι83 = up2 ι81 (200 + gN g49) 13 0 → (vp_in 14 (gL g53 (200 + gN g49)) ∧ (∀ ι85, ι85 = up2 ι83 (200 + gN g49) 14 0 → (vp_in 15 (gL g53 (200 + gN g49)) ∧ (∀ ι87, ι87 = up2 ι85 (200 + gN g49) 15 0 → (∀ g89, g89 = setg g53 a0 3 (200 + gN g49) → ((4 ≤ BC ∧ 40 ≤ BS) ∧ (∀ g92 ι93, g92 = newg g89 100 14 → ι93 = newi g89 ι87 → (∀ g97, g97 = setg g92 a0 4 (200 + gN g89) → ((5 ≤ BC ∧ 68 ≤ BS) ∧ (∀ g100 ι101, g100 = newg g97 100 28 → ι101 = newi g97 ι93 → (∀ g105, g105 = setg g100 a0 5 (200 + gN g97) → ((6 ≤ BC ∧ 82 ≤ BS) ∧ (∀ g109 ι110, g109 = newg g105 100 14 → ι110 = newi g105 ι101 → (∀ g113, g113 = setg g109 a0 6 (200 + gN g105) → ((7 ≤ BC ∧ 96 ≤ BS) ∧ (∀ g116 ι117, g116 = newg g113 100 14 → ι117 = newi g113 ι110 → (∀ g121, g121 = setg g116 a0 7 (200 + gN g113) → ((8 ≤ BC ∧ 110 ≤ BS) ∧ (∀ g124 ι125, g124 = newg g121 100 14 → ι125 = newi g121 ι117 → (∀ g129, g129 = setg g124 a0 8 (200 + gN g121) → ((9 ≤ BC ∧ 124 ≤ BS) ∧ (∀ g133 ι134, g133 = newg g129 100 14 → ι134 = newi g129 ι125 → (∀ g137, g137 = setg g133 a0 9 (200 + gN g129) → ((10 ≤ BC ∧ 138 ≤ BS) ∧ (∀ g140 ι141, g140 = newg g137 100 14 → ι141 = newi g137 ι134 → (∀ g145, g145 = setg g140 a0 10 (200 + gN g137) → ((11 ≤ BC ∧ 1338 ≤ BS) ∧ (∀ g148 ι149, g148 = newg g145 100 1200 → ι149 = newi g145 ι141 → (∀ g153, g153 = setg g148 a0 11 (200 + gN g145) → ((12 ≤ BC ∧ 1341 ≤ BS) ∧ (∀ g157 ι158, g157 = newg g153 100 3 → ι158 = newi g153 ι149 → (∀ g161, g161 = setg g157 a0 12 (200 + gN g153) → ((13 ≤ BC ∧ 1941 ≤ BS) ∧ (∀ g164 ι165, g164 = newg g161 100 600 → ι165 = newi g161 ι158 → (∀ g169, g169 = setg g164 a0 13 (200 + gN g161) → (∀ ι171, ι171 = up2 ι165 a0 23 (-1) → ((14 ≤ BC ∧ 1948 ≤ BS) ∧ (∀ g173 ι174, g173 = newg g169 100 7 → ι174 = newi g169 ι171 → (∀ g178, g178 = setg g173 a0 24 (200 + gN g169) → ((15 ≤ BC ∧ 2668 ≤ BS) ∧ (∀ g182 ι183, g182 = newg g178 100 720 → ι183 = newi g178 ι174 → (∀ g186, g186 = setg g182 a0 25 (200 + gN g178) → (∀ ι188, ι188 = up2 ι183 a0 27 (-1) → ((16 ≤ BC ∧ 2675 ≤ BS) ∧ (∀ g190 ι191, g190 = newg g186 100 7 → ι191 = newi g186 ι188 → (∀ g195, g195 = setg g190 a0 32 (200 + gN g186) → ((17 ≤ BC ∧ 2739 ≤ BS) ∧ (∀ g198 ι199, g198 = newg g195 100 64 → ι199 = newi g195 ι191 → (∀ g203, g203 = setg g198 a0 33 (200 + gN g195) → ((18 ≤ BC ∧ 2746 ≤ BS) ∧ (∀ g207 ι208, g207 = newg g203 100 7 → ι208 = newi g203 ι199 → (∀ g211, g211 = setg g207 a0 34 (200 + gN g203) → ((19 ≤ BC ∧ 2753 ≤ BS) ∧ (∀ g214 ι215, g214 = newg g211 100 7 → ι215 = newi g211 ι208 → (∀ g219, g219 = setg g214 a0 35 (200 + gN g211) → ((20 ≤ BC ∧ 2760 ≤ BS) ∧ (∀ g222 ι223, g222 = newg g219 100 7 → ι223 = newi g219 ι215 → (∀ g227, g227 = setg g222 a0 36 (200 + gN g219) → ((21 ≤ BC ∧ 2767 ≤ BS) ∧ (∀ g231 ι232, g231 = newg g227 100 7 → ι232 = newi g227 ι223 → (∀ g235, g235 = setg g231 a0 37 (200 + gN g227) → ((22 ≤ BC ∧ 2774 ≤ BS) ∧ (∀ g238 ι239, g238 = newg g235 100 7 → ι239 = newi g235 ι232 → (∀ g243, g243 = setg g238 a0 38 (200 + gN g235) → ((23 ≤ BC ∧ 2781 ≤ BS) ∧ (∀ g246 ι247, g246 = newg g243 100 7 → ι247 = newi g243 ι239 → (∀ g251, g251 = setg g246 a0 39 (200 + gN g243) → ((24 ≤ BC ∧ 2788 ≤ BS) ∧ (∀ g255 ι256, g255 = newg g251 100 7 → ι256 = newi g251 ι247 → (∀ g259, g259 = setg g255 a0 40 (200 + gN g251) → ((25 ≤ BC ∧ 3988 ≤ BS) ∧ (∀ g262 ι263, g262 = newg g259 100 1200 → ι263 = newi g259 ι256 → (∀ g267, g267 = setg g262 a0 41 (200 + gN g259) → ((26 ≤ BC ∧ 5188 ≤ BS) ∧ (∀ g270 ι271, g270 = newg g267 100 1200 → ι271 = newi g267 ι263 → (∀ g275, g275 = setg g270 a0 42 (200 + gN g267) → ((27 ≤ BC ∧ 6388 ≤ BS) ∧ (∀ g279 ι280, g279 = newg g275 100 1200 → ι280 = newi g275 ι271 → (∀ g283, g283 = setg g279 a0 43 (200 + gN g275) → ((28 ≤ BC ∧ 7588 ≤ BS) ∧ (∀ g286 ι287, g286 = newg g283 100 1200 → ι287 = newi g283 ι280 → (∀ g291, g291 = setg g286 a0 44 (200 + gN g283) → ((29 ≤ BC ∧ 7595 ≤ BS) ∧ (∀ g294 ι295, g294 = newg g291 100 7 → ι295 = newi g291 ι287 → (∀ g299, g299 = setg g294 a0 54 (200 + gN g291) → ((30 ≤ BC ∧ 7602 ≤ BS) ∧ (∀ g303 ι304, g303 = newg g299 100 7 → ι304 = newi g299 ι295 → (∀ g307, g307 = setg g303 a0 55 (200 + gN g299) → ((31 ≤ BC ∧ 7609 ≤ BS) ∧ (∀ g310 ι311, g310 = newg g307 100 7 → ι311 = newi g307 ι304 → (∀ g315, g315 = setg g310 a0 59 (200 + gN g307) → ((32 ≤ BC ∧ 7617 ≤ BS) ∧ (∀ g318 ι319, g318 = newg g315 100 8 → ι319 = newi g315 ι311 → (∀ g323, g323 = setg g318 a0 60 (200 + gN g315) → ((33 ≤ BC ∧ 7625 ≤ BS) ∧ (∀ g327 ι328, g327 = newg g323 100 8 → ι328 = newi g323 ι319 → (∀ g331, g331 = setg g327 a0 61 (200 + gN g323) → ((34 ≤ BC ∧ 7633 ≤ BS) ∧ (∀ g334 ι335, g334 = newg g331 100 8 → ι335 = newi g331 ι328 → (∀ g339, g339 = setg g334 a0 62 (200 + gN g331) → ((35 ≤ BC ∧ 7651 ≤ BS) ∧ (∀ g342 ι343, g342 = newg g339 100 18 → ι343 = newi g339 ι335 → (∀ g347, g347 = setg g342 a0 67 (200 + gN g339) → ((36 ≤ BC ∧ 8371 ≤ BS) ∧ (∀ g351 ι352, g351 = newg g347 100 720 → ι352 = newi g347 ι343 → (∀ g355, g355 = setg g351 a0 68 (200 + gN g347) → ((37 ≤ BC ∧ 8379 ≤ BS) ∧ (∀ g358 ι359, g358 = newg g355 100 8 → ι359 = newi g355 ι352 → (∀ g363, g363 = setg g358 a0 69 (200 + gN g355) → ((38 ≤ BC ∧ 8387 ≤ BS) ∧ (∀ g366 ι367, g366 = newg g363 100 8 → ι367 = newi g363 ι359 → (∀ g371, g371 = setg g366 a0 70 (200 + gN g363) → ((39 ≤ BC ∧ 8395 ≤ BS) ∧ (∀ g375 ι376, g375 = newg g371 100 8 → ι376 = newi g371 ι367 → (∀ g379, g379 = setg g375 a0 71 (200 + gN g371) → ((40 ≤ BC ∧ 8398 ≤ BS) ∧ (∀ g382 ι383, g382 = newg g379 100 3 → ι383 = newi g379 ι376 → (∀ g387, g387 = setg g382 a0 72 (200 + gN g379) → (Q g387 ι383)))))))))))))))))))))))))))))))))))))))))))))))))))))))))))))))))))))))))))))))))))))))))))))))))))))))))))))))))))))))))))))))))))))))))))))))))))))))))))))))))))))))))))))))))
set_option maxHeartbeats 2000000 in
theorem we_X8_init (hnm : meth.name = "<init>") {BC BS : Nat} {Q : GT → S → Prop} : ∀ (a0 : Nat) (g : GT) (ι : S) (ad : Nat → Nat) (H : Heap) (locs : List Loc) (ls : Array Slot), P_X8_init BC BS a0 g ι Q → CX p s m args c meth cX8_init 1 none RX8 D dA ad A → PW D dA A s.heap ad (HS g ι) H locs → HA ad0 g0 ad g → LH ad ls 1 [(0, pX a0)] → WHv p l e ({ frames := 1, cells := BC, slots := BS, locals := 20 } : Room) s m args below meth c D dA ad0 g0 A Q BC BS H locs (0) (0) (F0 m 0 ls []) := by
  intro a0 g ι ad H locs ls hF X hP hag hl
  unfold P_X8_init at hF
  refine ph_aload_n (n := 0) X hl dX8_init_0 rfl rfl ?_
  obtain ⟨hm1, hF⟩ := hF
  refine hg_obj X hl (cg_nz hP hm1 (by decide)) q1757 q146 (k8 := 0) (cs0 (k := 0)) (by decide) ⟨Nat.le_of_ble_eq_true rfl, Nat.le_of_ble_eq_true rfl⟩ dX8_init_1 ?_
  refine ph_aload_n (n := 0) X hl dX8_init_4 rfl rfl ?_
  refine lv_iconst (v := 3) X.1 X.2.1 dX8_init_5 (by decide) ?_
  obtain ⟨hx2, hF⟩ := hF
  obtain ⟨hd3, hF⟩ := hF
  refine hg_newaS [pX a0] X hP hag hl (ltlp hx2 ltln) (ltsp hx2 ltsn) q1758 q1759 (by decide) (by decide) (Nat.le_of_ble_eq_true rfl) hd3 dX8_init_6 rfl hF (fun H ad g4 ι5 X hP hag he6 hk7 hl hF => ?_)
  show WHv p l e ({ frames := 1, cells := BC, slots := BS, locals := 20 } : Room) s m args below meth c D dA ad0 g0 A Q BC BS H locs (1) (3) (F0 m 9 ls [rv ad (200 + gN g), rv ad a0])
  refine ph_dup_r X dX8_init_9 ?_
  refine lv_iconst (v := 0) X.1 X.2.1 dX8_init_10 (by decide) ?_
  refine ph_ldcS (i := 6) (tx := "sleeper") X (List.mem_of_getElem? (i := 0) rfl) dX8_init_11 ?_
  obtain ⟨hr8, hF⟩ := hF
  refine hg_aastS X hP hk7.1 hr8 (k := 0) (j := 6) (by decide) (by decide) dX8_init_13 hF (fun H locs g9 hP he10 hF => ?_)
  have hag : HA ad0 g0 ad g9 := ⟨by rw [he10.1]; exact hag.1, hag.2⟩
  refine ph_dup_r X dX8_init_14 ?_
  refine lv_iconst (v := 1) X.1 X.2.1 dX8_init_15 (by decide) ?_
  refine ph_ldcS (i := 7) (tx := "child") X (List.mem_of_getElem? (i := 1) rfl) dX8_init_16 ?_
  obtain ⟨hr11, hF⟩ := hF
  refine hg_aastS X hP (by rw [he10.2.1]; exact hk7.1) hr11 (k := 1) (j := 7) (by decide) (by decide) dX8_init_18 hF (fun H locs g12 hP he13 hF => ?_)
  have hag : HA ad0 g0 ad g12 := ⟨by rw [he13.1]; exact hag.1, hag.2⟩
  refine ph_dup_r X dX8_init_19 ?_
  refine lv_iconst (v := 2) X.1 X.2.1 dX8_init_20 (by decide) ?_
  refine ph_ldcS (i := 8) (tx := "snorer") X (List.mem_of_getElem? (i := 2) rfl) dX8_init_21 ?_
  obtain ⟨hr14, hF⟩ := hF
  refine hg_aastS X hP (by rw [he13.2.1]; exact (by rw [he10.2.1]; exact hk7.1)) hr14 (k := 2) (j := 8) (by decide) (by decide) dX8_init_23 hF (fun H locs g15 hP he16 hF => ?_)
  have hag : HA ad0 g0 ad g15 := ⟨by rw [he16.1]; exact hag.1, hag.2⟩
  refine hg_putrF 0 0 X in_X8 tyX8 tyX8_ok nmX8 hP (by rw [he16.2.1]; exact (by rw [he13.2.1]; exact (by rw [he10.2.1]; exact (by rw [hk7.2 _ hx2]; exact hm1)))) q1770 hnm dX8_init_24 (ltm (ltm (ltm (ltw he6) (Nat.le_of_eq he10.1.symm)) (Nat.le_of_eq he13.1.symm)) (Nat.le_of_eq he16.1.symm)) hF (fun H locs g17 hP he18 hF => ?_) (Or.inr ⟨_, rfl⟩)
  have hag : HA ad0 g0 ad g17 := ⟨by rw [he18.1]; exact hag.1, hag.2⟩
  refine ph_aload_n (n := 0) X hl dX8_init_27 rfl rfl ?_
  refine lv_bipush (v := 7) X.1 X.2.1 dX8_init_28 (by decide) ?_
  have hx19 : a0 < 200 + gN g17 := (ltm (ltm (ltm (ltm (ltm hx2 (Nat.le_of_succ_le he6)) (Nat.le_of_eq he10.1.symm)) (Nat.le_of_eq he13.1.symm)) (Nat.le_of_eq he16.1.symm)) (Nat.le_of_eq he18.1.symm))
  obtain ⟨hd20, hF⟩ := hF
  refine hg_newaS [pX a0] X hP hag hl (ltlp hx19 ltln) (ltsp hx19 ltsn) q1758 q1759 (by decide) (by decide) (Nat.le_of_ble_eq_true rfl) hd20 dX8_init_30 rfl hF (fun H ad g21 ι22 X hP hag he23 hk24 hl hF => ?_)
  show WHv p l e ({ frames := 1, cells := BC, slots := BS, locals := 20 } : Room) s m args below meth c D dA ad0 g0 A Q BC BS H locs (2) (10) (F0 m 33 ls [rv ad (200 + gN g17), rv ad a0])
  refine ph_dup_r X dX8_init_33 ?_
  refine lv_iconst (v := 0) X.1 X.2.1 dX8_init_34 (by decide) ?_
  refine ph_ldcS (i := 22) (tx := "light") X (List.mem_of_getElem? (i := 3) rfl) dX8_init_35 ?_
  obtain ⟨hr25, hF⟩ := hF
  refine hg_aastS X hP hk24.1 hr25 (k := 0) (j := 22) (by decide) (by decide) dX8_init_37 hF (fun H locs g26 hP he27 hF => ?_)
  have hag : HA ad0 g0 ad g26 := ⟨by rw [he27.1]; exact hag.1, hag.2⟩
  refine ph_dup_r X dX8_init_38 ?_
  refine lv_iconst (v := 1) X.1 X.2.1 dX8_init_39 (by decide) ?_
  refine ph_ldcS (i := 23) (tx := "off") X (List.mem_of_getElem? (i := 4) rfl) dX8_init_40 ?_
  obtain ⟨hr28, hF⟩ := hF
  refine hg_aastS X hP (by rw [he27.2.1]; exact hk24.1) hr28 (k := 1) (j := 23) (by decide) (by decide) dX8_init_42 hF (fun H locs g29 hP he30 hF => ?_)
  have hag : HA ad0 g0 ad g29 := ⟨by rw [he30.1]; exact hag.1, hag.2⟩
  refine ph_dup_r X dX8_init_43 ?_
  refine lv_iconst (v := 2) X.1 X.2.1 dX8_init_44 (by decide) ?_
  refine ph_ldcS (i := 24) (tx := "turns") X (List.mem_of_getElem? (i := 5) rfl) dX8_init_45 ?_
  obtain ⟨hr31, hF⟩ := hF
  refine hg_aastS X hP (by rw [he30.2.1]; exact (by rw [he27.2.1]; exact hk24.1)) hr31 (k := 2) (j := 24) (by decide) (by decide) dX8_init_47 hF (fun H locs g32 hP he33 hF => ?_)
  have hag : HA ad0 g0 ad g32 := ⟨by rw [he33.1]; exact hag.1, hag.2⟩
  refine ph_dup_r X dX8_init_48 ?_
  refine lv_iconst (v := 3) X.1 X.2.1 dX8_init_49 (by decide) ?_
  refine ph_ldcS (i := 25) (tx := "hour") X (List.mem_of_getElem? (i := 6) rfl) dX8_init_50 ?_
  obtain ⟨hr34, hF⟩ := hF
  refine hg_aastS X hP (by rw [he33.2.1]; exact (by rw [he30.2.1]; exact (by rw [he27.2.1]; exact hk24.1))) hr34 (k := 3) (j := 25) (by decide) (by decide) dX8_init_52 hF (fun H locs g35 hP he36 hF => ?_)
  have hag : HA ad0 g0 ad g35 := ⟨by rw [he36.1]; exact hag.1, hag.2⟩
  refine ph_dup_r X dX8_init_53 ?_
  refine lv_iconst (v := 4) X.1 X.2.1 dX8_init_54 (by decide) ?_
  refine ph_ldcS (i := 26) (tx := "snore") X (List.mem_of_getElem? (i := 7) rfl) dX8_init_55 ?_
  obtain ⟨hr37, hF⟩ := hF
  refine hg_aastS X hP (by rw [he36.2.1]; exact (by rw [he33.2.1]; exact (by rw [he30.2.1]; exact (by rw [he27.2.1]; exact hk24.1)))) hr37 (k := 4) (j := 26) (by decide) (by decide) dX8_init_57 hF (fun H locs g38 hP he39 hF => ?_)
  have hag : HA ad0 g0 ad g38 := ⟨by rw [he39.1]; exact hag.1, hag.2⟩
  refine ph_dup_r X dX8_init_58 ?_
  refine lv_iconst (v := 5) X.1 X.2.1 dX8_init_59 (by decide) ?_
  refine ph_ldcS (i := 27) (tx := "edge") X (List.mem_of_getElem? (i := 8) rfl) dX8_init_60 ?_
  obtain ⟨hr40, hF⟩ := hF
  refine hg_aastS X hP (by rw [he39.2.1]; exact (by rw [he36.2.1]; exact (by rw [he33.2.1]; exact (by rw [he30.2.1]; exact (by rw [he27.2.1]; exact hk24.1))))) hr40 (k := 5) (j := 27) (by decide) (by decide) dX8_init_62 hF (fun H locs g41 hP he42 hF => ?_)
  have hag : HA ad0 g0 ad g41 := ⟨by rw [he42.1]; exact hag.1, hag.2⟩
  refine ph_dup_r X dX8_init_63 ?_
  refine lv_bipush (v := 6) X.1 X.2.1 dX8_init_64 (by decide) ?_
  refine ph_ldcS (i := 28) (tx := "woken") X (List.mem_of_getElem? (i := 9) rfl) dX8_init_66 ?_
  have hm43 : gK g41 (200 + gN g17) = 111 := (by rw [he42.2.1]; exact (by rw [he39.2.1]; exact (by rw [he36.2.1]; exact (by rw [he33.2.1]; exact (by rw [he30.2.1]; exact (by rw [he27.2.1]; exact hk24.1))))))
  obtain ⟨hr44, hF⟩ := hF
  refine hg_aastS X hP hm43 hr44 (k := 6) (j := 28) (by decide) (by decide) dX8_init_68 hF (fun H locs g45 hP he46 hF => ?_)
  have hag : HA ad0 g0 ad g45 := ⟨by rw [he46.1]; exact hag.1, hag.2⟩
  have hm47 : gK g45 a0 = 1 := (by rw [he46.2.1]; exact (by rw [he42.2.1]; exact (by rw [he39.2.1]; exact (by rw [he36.2.1]; exact (by rw [he33.2.1]; exact (by rw [he30.2.1]; exact (by rw [he27.2.1]; exact (by rw [hk24.2 _ hx19]; exact (by rw [he18.2.1]; exact (by rw [he16.2.1]; exact (by rw [he13.2.1]; exact (by rw [he10.2.1]; exact (by rw [hk7.2 _ hx2]; exact hm1)))))))))))))
  have hx48 : (200 + gN g17) < 200 + gN g45 := (ltm (ltm (ltm (ltm (ltm (ltm (ltm (ltw he23) (Nat.le_of_eq he27.1.symm)) (Nat.le_of_eq he30.1.symm)) (Nat.le_of_eq he33.1.symm)) (Nat.le_of_eq he36.1.symm)) (Nat.le_of_eq he39.1.symm)) (Nat.le_of_eq he42.1.symm)) (Nat.le_of_eq he46.1.symm))
  refine hg_putrF 0 1 X in_X8 tyX8 tyX8_ok nmX8 hP hm47 q1771 hnm dX8_init_69 hx48 hF (fun H locs g49 hP he50 hF => ?_) (Or.inr ⟨_, rfl⟩)
  have hag : HA ad0 g0 ad g49 := ⟨by rw [he50.1]; exact hag.1, hag.2⟩
  refine ph_aload_n (n := 0) X hl dX8_init_72 rfl rfl ?_
  refine lv_bipush (v := 16) X.1 X.2.1 dX8_init_73 (by decide) ?_
  have hx51 : a0 < 200 + gN g49 := (ltm (ltm (ltm (ltm (ltm (ltm (ltm (ltm (ltm hx19 (Nat.le_of_succ_le he23)) (Nat.le_of_eq he27.1.symm)) (Nat.le_of_eq he30.1.symm)) (Nat.le_of_eq he33.1.symm)) (Nat.le_of_eq he36.1.symm)) (Nat.le_of_eq he39.1.symm)) (Nat.le_of_eq he42.1.symm)) (Nat.le_of_eq he46.1.symm)) (Nat.le_of_eq he50.1.symm))
  obtain ⟨hd52, hF⟩ := hF
  refine hg_newaI [pX a0] X hP hag hl (ltlp hx51 ltln) (ltsp hx51 ltsn) q516 (by decide) (by decide) (Nat.le_of_ble_eq_true rfl) hd52 dX8_init_75 rfl hF (fun H ad g53 ι54 X hP hag he55 hk56 hl hF => ?_)
  show WHv p l e ({ frames := 1, cells := BC, slots := BS, locals := 20 } : Room) s m args below meth c D dA ad0 g0 A Q BC BS H locs (3) (26) (F0 m 77 ls [rv ad (200 + gN g49), rv ad a0])
  refine ph_dup_r X dX8_init_77 ?_
  refine lv_iconst (v := 0) X.1 X.2.1 dX8_init_78 (by decide) ?_
  refine lv_iconst (v := 0) X.1 X.2.1 dX8_init_79 (by decide) ?_
  obtain ⟨hr58, hF⟩ := hF
  refine cg_iast X hP hk56.1 hr58 (k := 0) (by decide) dX8_init_80 hF (fun H locs ι57 hP hF => ?_)
  refine ph_dup_r X dX8_init_81 ?_
  refine lv_iconst (v := 1) X.1 X.2.1 dX8_init_82 (by decide) ?_
  refine lv_bipush (v := 20) X.1 X.2.1 dX8_init_83 (by decide) ?_
  obtain ⟨hr60, hF⟩ := hF
  refine cg_iast X hP hk56.1 hr60 (k := 1) (by decide) dX8_init_85 hF (fun H locs ι59 hP hF => ?_)
  refine ph_dup_r X dX8_init_86 ?_
  refine lv_iconst (v := 2) X.1 X.2.1 dX8_init_87 (by decide) ?_
  refine lv_iconst (v := 3) X.1 X.2.1 dX8_init_88 (by decide) ?_
  obtain ⟨hr62, hF⟩ := hF
  refine cg_iast X hP hk56.1 hr62 (k := 2) (by decide) dX8_init_89 hF (fun H locs ι61 hP hF => ?_)
  refine ph_dup_r X dX8_init_90 ?_
  refine lv_iconst (v := 3) X.1 X.2.1 dX8_init_91 (by decide) ?_
  refine lv_sipush (v := 480) X.1 X.2.1 dX8_init_92 (by decide) ?_
  obtain ⟨hr64, hF⟩ := hF
  refine cg_iast X hP hk56.1 hr64 (k := 3) (by decide) dX8_init_95 hF (fun H locs ι63 hP hF => ?_)
  refine ph_dup_r X dX8_init_96 ?_
  refine lv_iconst (v := 4) X.1 X.2.1 dX8_init_97 (by decide) ?_
  refine lv_bipush (v := 15) X.1 X.2.1 dX8_init_98 (by decide) ?_
  obtain ⟨hr66, hF⟩ := hF
  refine cg_iast X hP hk56.1 hr66 (k := 4) (by decide) dX8_init_100 hF (fun H locs ι65 hP hF => ?_)
  refine ph_dup_r X dX8_init_101 ?_
  refine lv_iconst (v := 5) X.1 X.2.1 dX8_init_102 (by decide) ?_
  refine lv_iconst (v := 0) X.1 X.2.1 dX8_init_103 (by decide) ?_
  obtain ⟨hr68, hF⟩ := hF
  refine cg_iast X hP hk56.1 hr68 (k := 5) (by decide) dX8_init_104 hF (fun H locs ι67 hP hF => ?_)
  refine ph_dup_r X dX8_init_105 ?_
  refine lv_bipush (v := 6) X.1 X.2.1 dX8_init_106 (by decide) ?_
  refine lv_iconst (v := 0) X.1 X.2.1 dX8_init_108 (by decide) ?_
  obtain ⟨hr70, hF⟩ := hF
  refine cg_iast X hP hk56.1 hr70 (k := 6) (by decide) dX8_init_109 hF (fun H locs ι69 hP hF => ?_)
  refine ph_dup_r X dX8_init_110 ?_
  refine lv_bipush (v := 7) X.1 X.2.1 dX8_init_111 (by decide) ?_
  refine lv_iconst (v := 0) X.1 X.2.1 dX8_init_113 (by decide) ?_
  obtain ⟨hr72, hF⟩ := hF
  refine cg_iast X hP hk56.1 hr72 (k := 7) (by decide) dX8_init_114 hF (fun H locs ι71 hP hF => ?_)
  refine ph_dup_r X dX8_init_115 ?_
  refine lv_bipush (v := 8) X.1 X.2.1 dX8_init_116 (by decide) ?_
  refine lv_iconst (v := 0) X.1 X.2.1 dX8_init_118 (by decide) ?_
  obtain ⟨hr74, hF⟩ := hF
  refine cg_iast X hP hk56.1 hr74 (k := 8) (by decide) dX8_init_119 hF (fun H locs ι73 hP hF => ?_)
  refine ph_dup_r X dX8_init_120 ?_
  refine lv_bipush (v := 9) X.1 X.2.1 dX8_init_121 (by decide) ?_
  refine lv_bipush (v := 20) X.1 X.2.1 dX8_init_123 (by decide) ?_
  obtain ⟨hr76, hF⟩ := hF
  refine cg_iast X hP hk56.1 hr76 (k := 9) (by decide) dX8_init_125 hF (fun H locs ι75 hP hF => ?_)
  refine ph_dup_r X dX8_init_126 ?_
  refine lv_bipush (v := 10) X.1 X.2.1 dX8_init_127 (by decide) ?_
  refine lv_iconst (v := 3) X.1 X.2.1 dX8_init_129 (by decide) ?_
  obtain ⟨hr78, hF⟩ := hF
  refine cg_iast X hP hk56.1 hr78 (k := 10) (by decide) dX8_init_130 hF (fun H locs ι77 hP hF => ?_)
  refine ph_dup_r X dX8_init_131 ?_
  refine lv_bipush (v := 11) X.1 X.2.1 dX8_init_132 (by decide) ?_
  refine lv_sipush (v := 480) X.1 X.2.1 dX8_init_134 (by decide) ?_
  obtain ⟨hr80, hF⟩ := hF
  refine cg_iast X hP hk56.1 hr80 (k := 11) (by decide) dX8_init_137 hF (fun H locs ι79 hP hF => ?_)
  refine ph_dup_r X dX8_init_138 ?_
  refine lv_bipush (v := 12) X.1 X.2.1 dX8_init_139 (by decide) ?_
  refine lv_bipush (v := 15) X.1 X.2.1 dX8_init_141 (by decide) ?_
  obtain ⟨hr82, hF⟩ := hF
  refine cg_iast X hP hk56.1 hr82 (k := 12) (by decide) dX8_init_143 hF (fun H locs ι81 hP hF => ?_)
  refine ph_dup_r X dX8_init_144 ?_
  refine lv_bipush (v := 13) X.1 X.2.1 dX8_init_145 (by decide) ?_
  refine lv_iconst (v := 0) X.1 X.2.1 dX8_init_147 (by decide) ?_
  obtain ⟨hr84, hF⟩ := hF
  refine cg_iast X hP hk56.1 hr84 (k := 13) (by decide) dX8_init_148 hF (fun H locs ι83 hP hF => ?_)
  refine ph_dup_r X dX8_init_149 ?_
  refine lv_bipush (v := 14) X.1 X.2.1 dX8_init_150 (by decide) ?_
  refine lv_iconst (v := 0) X.1 X.2.1 dX8_init_152 (by decide) ?_
  obtain ⟨hr86, hF⟩ := hF
  refine cg_iast X hP hk56.1 hr86 (k := 14) (by decide) dX8_init_153 hF (fun H locs ι85 hP hF => ?_)
  refine ph_dup_r X dX8_init_154 ?_
  refine lv_bipush (v := 15) X.1 X.2.1 dX8_init_155 (by decide) ?_
  refine lv_iconst (v := 0) X.1 X.2.1 dX8_init_157 (by decide) ?_
  obtain ⟨hr88, hF⟩ := hF
  refine cg_iast X hP hk56.1 hr88 (k := 15) (by decide) dX8_init_158 hF (fun H locs ι87 hP hF => ?_)
  refine hg_putrF 0 3 X in_X8 tyX8 tyX8_ok nmX8 hP (by rw [hk56.2 _ hx51]; exact (by rw [he50.2.1]; exact hm47)) q1773 hnm dX8_init_159 (ltw he55) hF (fun H locs g89 hP he90 hF => ?_) (Or.inr ⟨_, rfl⟩)
  have hag : HA ad0 g0 ad g89 := ⟨by rw [he90.1]; exact hag.1, hag.2⟩
  refine ph_aload_n (n := 0) X hl dX8_init_162 rfl rfl ?_
  refine lv_bipush (v := 14) X.1 X.2.1 dX8_init_163 (by decide) ?_
  obtain ⟨hd91, hF⟩ := hF
  refine hg_newaI [pX a0] X hP hag hl (ltlp (ltm (ltm hx51 (Nat.le_of_succ_le he55)) (Nat.le_of_eq he90.1.symm)) ltln) (ltsp (ltm (ltm hx51 (Nat.le_of_succ_le he55)) (Nat.le_of_eq he90.1.symm)) ltsn) q516 (by decide) (by decide) (Nat.le_of_ble_eq_true rfl) hd91 dX8_init_165 rfl hF (fun H ad g92 ι93 X hP hag he94 hk95 hl hF => ?_)
  show WHv p l e ({ frames := 1, cells := BC, slots := BS, locals := 20 } : Room) s m args below meth c D dA ad0 g0 A Q BC BS H locs (4) (40) (F0 m 167 ls [rv ad (200 + gN g89), rv ad a0])
  have hm96 : gK g92 a0 = 1 := (by rw [hk95.2 _ (ltm (ltm hx51 (Nat.le_of_succ_le he55)) (Nat.le_of_eq he90.1.symm))]; exact (by rw [he90.2.1]; exact (by rw [hk56.2 _ hx51]; exact (by rw [he50.2.1]; exact hm47))))
  refine hg_putrF 0 4 X in_X8 tyX8 tyX8_ok nmX8 hP hm96 q1774 hnm dX8_init_167 (ltw he94) hF (fun H locs g97 hP he98 hF => ?_) (Or.inr ⟨_, rfl⟩)
  have hag : HA ad0 g0 ad g97 := ⟨by rw [he98.1]; exact hag.1, hag.2⟩
  refine ph_aload_n (n := 0) X hl dX8_init_170 rfl rfl ?_
  refine lv_bipush (v := 28) X.1 X.2.1 dX8_init_171 (by decide) ?_
  obtain ⟨hd99, hF⟩ := hF
  refine hg_newaI [pX a0] X hP hag hl (ltlp (ltm (ltm (ltm (ltm hx51 (Nat.le_of_succ_le he55)) (Nat.le_of_eq he90.1.symm)) (Nat.le_of_succ_le he94)) (Nat.le_of_eq he98.1.symm)) ltln) (ltsp (ltm (ltm (ltm (ltm hx51 (Nat.le_of_succ_le he55)) (Nat.le_of_eq he90.1.symm)) (Nat.le_of_succ_le he94)) (Nat.le_of_eq he98.1.symm)) ltsn) q516 (by decide) (by decide) (Nat.le_of_ble_eq_true rfl) hd99 dX8_init_173 rfl hF (fun H ad g100 ι101 X hP hag he102 hk103 hl hF => ?_)
  show WHv p l e ({ frames := 1, cells := BC, slots := BS, locals := 20 } : Room) s m args below meth c D dA ad0 g0 A Q BC BS H locs (5) (68) (F0 m 175 ls [rv ad (200 + gN g97), rv ad a0])
  have hm104 : gK g100 a0 = 1 := (by rw [hk103.2 _ (ltm (ltm (ltm (ltm hx51 (Nat.le_of_succ_le he55)) (Nat.le_of_eq he90.1.symm)) (Nat.le_of_succ_le he94)) (Nat.le_of_eq he98.1.symm))]; exact (by rw [he98.2.1]; exact hm96))
  refine hg_putrF 0 5 X in_X8 tyX8 tyX8_ok nmX8 hP hm104 q1775 hnm dX8_init_175 (ltw he102) hF (fun H locs g105 hP he106 hF => ?_) (Or.inr ⟨_, rfl⟩)
  have hag : HA ad0 g0 ad g105 := ⟨by rw [he106.1]; exact hag.1, hag.2⟩
  refine ph_aload_n (n := 0) X hl dX8_init_178 rfl rfl ?_
  refine lv_bipush (v := 14) X.1 X.2.1 dX8_init_179 (by decide) ?_
  have hx107 : a0 < 200 + gN g105 := (ltm (ltm (ltm (ltm (ltm (ltm hx51 (Nat.le_of_succ_le he55)) (Nat.le_of_eq he90.1.symm)) (Nat.le_of_succ_le he94)) (Nat.le_of_eq he98.1.symm)) (Nat.le_of_succ_le he102)) (Nat.le_of_eq he106.1.symm))
  obtain ⟨hd108, hF⟩ := hF
  refine hg_newaI [pX a0] X hP hag hl (ltlp hx107 ltln) (ltsp hx107 ltsn) q516 (by decide) (by decide) (Nat.le_of_ble_eq_true rfl) hd108 dX8_init_181 rfl hF (fun H ad g109 ι110 X hP hag he111 hk112 hl hF => ?_)
  show WHv p l e ({ frames := 1, cells := BC, slots := BS, locals := 20 } : Room) s m args below meth c D dA ad0 g0 A Q BC BS H locs (6) (82) (F0 m 183 ls [rv ad (200 + gN g105), rv ad a0])
  refine hg_putrF 0 6 X in_X8 tyX8 tyX8_ok nmX8 hP (by rw [hk112.2 _ hx107]; exact (by rw [he106.2.1]; exact hm104)) q1776 hnm dX8_init_183 (ltw he111) hF (fun H locs g113 hP he114 hF => ?_) (Or.inr ⟨_, rfl⟩)
  have hag : HA ad0 g0 ad g113 := ⟨by rw [he114.1]; exact hag.1, hag.2⟩
  refine ph_aload_n (n := 0) X hl dX8_init_186 rfl rfl ?_
  refine lv_bipush (v := 14) X.1 X.2.1 dX8_init_187 (by decide) ?_
  obtain ⟨hd115, hF⟩ := hF
  refine hg_newaI [pX a0] X hP hag hl (ltlp (ltm (ltm hx107 (Nat.le_of_succ_le he111)) (Nat.le_of_eq he114.1.symm)) ltln) (ltsp (ltm (ltm hx107 (Nat.le_of_succ_le he111)) (Nat.le_of_eq he114.1.symm)) ltsn) q516 (by decide) (by decide) (Nat.le_of_ble_eq_true rfl) hd115 dX8_init_189 rfl hF (fun H ad g116 ι117 X hP hag he118 hk119 hl hF => ?_)
  show WHv p l e ({ frames := 1, cells := BC, slots := BS, locals := 20 } : Room) s m args below meth c D dA ad0 g0 A Q BC BS H locs (7) (96) (F0 m 191 ls [rv ad (200 + gN g113), rv ad a0])
  have hm120 : gK g116 a0 = 1 := (by rw [hk119.2 _ (ltm (ltm hx107 (Nat.le_of_succ_le he111)) (Nat.le_of_eq he114.1.symm))]; exact (by rw [he114.2.1]; exact (by rw [hk112.2 _ hx107]; exact (by rw [he106.2.1]; exact hm104))))
  refine hg_putrF 0 7 X in_X8 tyX8 tyX8_ok nmX8 hP hm120 q1777 hnm dX8_init_191 (ltw he118) hF (fun H locs g121 hP he122 hF => ?_) (Or.inr ⟨_, rfl⟩)
  have hag : HA ad0 g0 ad g121 := ⟨by rw [he122.1]; exact hag.1, hag.2⟩
  refine ph_aload_n (n := 0) X hl dX8_init_194 rfl rfl ?_
  refine lv_bipush (v := 14) X.1 X.2.1 dX8_init_195 (by decide) ?_
  obtain ⟨hd123, hF⟩ := hF
  refine hg_newaI [pX a0] X hP hag hl (ltlp (ltm (ltm (ltm (ltm hx107 (Nat.le_of_succ_le he111)) (Nat.le_of_eq he114.1.symm)) (Nat.le_of_succ_le he118)) (Nat.le_of_eq he122.1.symm)) ltln) (ltsp (ltm (ltm (ltm (ltm hx107 (Nat.le_of_succ_le he111)) (Nat.le_of_eq he114.1.symm)) (Nat.le_of_succ_le he118)) (Nat.le_of_eq he122.1.symm)) ltsn) q516 (by decide) (by decide) (Nat.le_of_ble_eq_true rfl) hd123 dX8_init_197 rfl hF (fun H ad g124 ι125 X hP hag he126 hk127 hl hF => ?_)
  show WHv p l e ({ frames := 1, cells := BC, slots := BS, locals := 20 } : Room) s m args below meth c D dA ad0 g0 A Q BC BS H locs (8) (110) (F0 m 199 ls [rv ad (200 + gN g121), rv ad a0])
  have hm128 : gK g124 a0 = 1 := (by rw [hk127.2 _ (ltm (ltm (ltm (ltm hx107 (Nat.le_of_succ_le he111)) (Nat.le_of_eq he114.1.symm)) (Nat.le_of_succ_le he118)) (Nat.le_of_eq he122.1.symm))]; exact (by rw [he122.2.1]; exact hm120))
  refine hg_putrF 0 8 X in_X8 tyX8 tyX8_ok nmX8 hP hm128 q1778 hnm dX8_init_199 (ltw he126) hF (fun H locs g129 hP he130 hF => ?_) (Or.inr ⟨_, rfl⟩)
  have hag : HA ad0 g0 ad g129 := ⟨by rw [he130.1]; exact hag.1, hag.2⟩
  refine ph_aload_n (n := 0) X hl dX8_init_202 rfl rfl ?_
  refine lv_bipush (v := 14) X.1 X.2.1 dX8_init_203 (by decide) ?_
  have hx131 : a0 < 200 + gN g129 := (ltm (ltm (ltm (ltm (ltm (ltm hx107 (Nat.le_of_succ_le he111)) (Nat.le_of_eq he114.1.symm)) (Nat.le_of_succ_le he118)) (Nat.le_of_eq he122.1.symm)) (Nat.le_of_succ_le he126)) (Nat.le_of_eq he130.1.symm))
  obtain ⟨hd132, hF⟩ := hF
  refine hg_newaI [pX a0] X hP hag hl (ltlp hx131 ltln) (ltsp hx131 ltsn) q516 (by decide) (by decide) (Nat.le_of_ble_eq_true rfl) hd132 dX8_init_205 rfl hF (fun H ad g133 ι134 X hP hag he135 hk136 hl hF => ?_)
  show WHv p l e ({ frames := 1, cells := BC, slots := BS, locals := 20 } : Room) s m args below meth c D dA ad0 g0 A Q BC BS H locs (9) (124) (F0 m 207 ls [rv ad (200 + gN g129), rv ad a0])
  refine hg_putrF 0 9 X in_X8 tyX8 tyX8_ok nmX8 hP (by rw [hk136.2 _ hx131]; exact (by rw [he130.2.1]; exact hm128)) q1779 hnm dX8_init_207 (ltw he135) hF (fun H locs g137 hP he138 hF => ?_) (Or.inr ⟨_, rfl⟩)
  have hag : HA ad0 g0 ad g137 := ⟨by rw [he138.1]; exact hag.1, hag.2⟩
  refine ph_aload_n (n := 0) X hl dX8_init_210 rfl rfl ?_
  refine lv_bipush (v := 14) X.1 X.2.1 dX8_init_211 (by decide) ?_
  obtain ⟨hd139, hF⟩ := hF
  refine hg_newaI [pX a0] X hP hag hl (ltlp (ltm (ltm hx131 (Nat.le_of_succ_le he135)) (Nat.le_of_eq he138.1.symm)) ltln) (ltsp (ltm (ltm hx131 (Nat.le_of_succ_le he135)) (Nat.le_of_eq he138.1.symm)) ltsn) q516 (by decide) (by decide) (Nat.le_of_ble_eq_true rfl) hd139 dX8_init_213 rfl hF (fun H ad g140 ι141 X hP hag he142 hk143 hl hF => ?_)
  show WHv p l e ({ frames := 1, cells := BC, slots := BS, locals := 20 } : Room) s m args below meth c D dA ad0 g0 A Q BC BS H locs (10) (138) (F0 m 215 ls [rv ad (200 + gN g137), rv ad a0])
  have hm144 : gK g140 a0 = 1 := (by rw [hk143.2 _ (ltm (ltm hx131 (Nat.le_of_succ_le he135)) (Nat.le_of_eq he138.1.symm))]; exact (by rw [he138.2.1]; exact (by rw [hk136.2 _ hx131]; exact (by rw [he130.2.1]; exact hm128))))
  refine hg_putrF 0 10 X in_X8 tyX8 tyX8_ok nmX8 hP hm144 q1780 hnm dX8_init_215 (ltw he142) hF (fun H locs g145 hP he146 hF => ?_) (Or.inr ⟨_, rfl⟩)
  have hag : HA ad0 g0 ad g145 := ⟨by rw [he146.1]; exact hag.1, hag.2⟩
  refine ph_aload_n (n := 0) X hl dX8_init_218 rfl rfl ?_
  refine lv_sipush (v := 1200) X.1 X.2.1 dX8_init_219 (by decide) ?_
  obtain ⟨hd147, hF⟩ := hF
  refine hg_newaI [pX a0] X hP hag hl (ltlp (ltm (ltm (ltm (ltm hx131 (Nat.le_of_succ_le he135)) (Nat.le_of_eq he138.1.symm)) (Nat.le_of_succ_le he142)) (Nat.le_of_eq he146.1.symm)) ltln) (ltsp (ltm (ltm (ltm (ltm hx131 (Nat.le_of_succ_le he135)) (Nat.le_of_eq he138.1.symm)) (Nat.le_of_succ_le he142)) (Nat.le_of_eq he146.1.symm)) ltsn) q516 (by decide) (by decide) (Nat.le_of_ble_eq_true rfl) hd147 dX8_init_222 rfl hF (fun H ad g148 ι149 X hP hag he150 hk151 hl hF => ?_)
  show WHv p l e ({ frames := 1, cells := BC, slots := BS, locals := 20 } : Room) s m args below meth c D dA ad0 g0 A Q BC BS H locs (11) (1338) (F0 m 224 ls [rv ad (200 + gN g145), rv ad a0])
  have hm152 : gK g148 a0 = 1 := (by rw [hk151.2 _ (ltm (ltm (ltm (ltm hx131 (Nat.le_of_succ_le he135)) (Nat.le_of_eq he138.1.symm)) (Nat.le_of_succ_le he142)) (Nat.le_of_eq he146.1.symm))]; exact (by rw [he146.2.1]; exact hm144))
  refine hg_putrF 0 11 X in_X8 tyX8 tyX8_ok nmX8 hP hm152 q1781 hnm dX8_init_224 (ltw he150) hF (fun H locs g153 hP he154 hF => ?_) (Or.inr ⟨_, rfl⟩)
  have hag : HA ad0 g0 ad g153 := ⟨by rw [he154.1]; exact hag.1, hag.2⟩
  refine ph_aload_n (n := 0) X hl dX8_init_227 rfl rfl ?_
  refine lv_iconst (v := 3) X.1 X.2.1 dX8_init_228 (by decide) ?_
  have hx155 : a0 < 200 + gN g153 := (ltm (ltm (ltm (ltm (ltm (ltm hx131 (Nat.le_of_succ_le he135)) (Nat.le_of_eq he138.1.symm)) (Nat.le_of_succ_le he142)) (Nat.le_of_eq he146.1.symm)) (Nat.le_of_succ_le he150)) (Nat.le_of_eq he154.1.symm))
  obtain ⟨hd156, hF⟩ := hF
  refine hg_newaI [pX a0] X hP hag hl (ltlp hx155 ltln) (ltsp hx155 ltsn) q516 (by decide) (by decide) (Nat.le_of_ble_eq_true rfl) hd156 dX8_init_229 rfl hF (fun H ad g157 ι158 X hP hag he159 hk160 hl hF => ?_)
  show WHv p l e ({ frames := 1, cells := BC, slots := BS, locals := 20 } : Room) s m args below meth c D dA ad0 g0 A Q BC BS H locs (12) (1341) (F0 m 231 ls [rv ad (200 + gN g153), rv ad a0])
  refine hg_putrF 0 12 X in_X8 tyX8 tyX8_ok nmX8 hP (by rw [hk160.2 _ hx155]; exact (by rw [he154.2.1]; exact hm152)) q1782 hnm dX8_init_231 (ltw he159) hF (fun H locs g161 hP he162 hF => ?_) (Or.inr ⟨_, rfl⟩)
  have hag : HA ad0 g0 ad g161 := ⟨by rw [he162.1]; exact hag.1, hag.2⟩
  refine ph_aload_n (n := 0) X hl dX8_init_234 rfl rfl ?_
  refine lv_sipush (v := 600) X.1 X.2.1 dX8_init_235 (by decide) ?_
  obtain ⟨hd163, hF⟩ := hF
  refine hg_newaI [pX a0] X hP hag hl (ltlp (ltm (ltm hx155 (Nat.le_of_succ_le he159)) (Nat.le_of_eq he162.1.symm)) ltln) (ltsp (ltm (ltm hx155 (Nat.le_of_succ_le he159)) (Nat.le_of_eq he162.1.symm)) ltsn) q516 (by decide) (by decide) (Nat.le_of_ble_eq_true rfl) hd163 dX8_init_238 rfl hF (fun H ad g164 ι165 X hP hag he166 hk167 hl hF => ?_)
  show WHv p l e ({ frames := 1, cells := BC, slots := BS, locals := 20 } : Room) s m args below meth c D dA ad0 g0 A Q BC BS H locs (13) (1941) (F0 m 240 ls [rv ad (200 + gN g161), rv ad a0])
  have hm168 : gK g164 a0 = 1 := (by rw [hk167.2 _ (ltm (ltm hx155 (Nat.le_of_succ_le he159)) (Nat.le_of_eq he162.1.symm))]; exact (by rw [he162.2.1]; exact (by rw [hk160.2 _ hx155]; exact (by rw [he154.2.1]; exact hm152))))
  refine hg_putrF 0 13 X in_X8 tyX8 tyX8_ok nmX8 hP hm168 q1783 hnm dX8_init_240 (ltw he166) hF (fun H locs g169 hP he170 hF => ?_) (Or.inr ⟨_, rfl⟩)
  have hag : HA ad0 g0 ad g169 := ⟨by rw [he170.1]; exact hag.1, hag.2⟩
  refine ph_aload_n (n := 0) X hl dX8_init_243 rfl rfl ?_
  refine lv_iconst (v := (-1)) X.1 X.2.1 dX8_init_244 (by decide) ?_
  refine hg_puti 0 23 X in_X8 tyX8 tyX8_ok nmX8 hP (by rw [he170.2.1]; exact hm168) q1793 dX8_init_245 rfl rfl hF (fun H locs ι171 hP hF => ?_)
  refine ph_aload_n (n := 0) X hl dX8_init_248 rfl rfl ?_
  refine lv_bipush (v := 7) X.1 X.2.1 dX8_init_249 (by decide) ?_
  obtain ⟨hd172, hF⟩ := hF
  refine hg_newaI [pX a0] X hP hag hl (ltlp (ltm (ltm (ltm (ltm hx155 (Nat.le_of_succ_le he159)) (Nat.le_of_eq he162.1.symm)) (Nat.le_of_succ_le he166)) (Nat.le_of_eq he170.1.symm)) ltln) (ltsp (ltm (ltm (ltm (ltm hx155 (Nat.le_of_succ_le he159)) (Nat.le_of_eq he162.1.symm)) (Nat.le_of_succ_le he166)) (Nat.le_of_eq he170.1.symm)) ltsn) q516 (by decide) (by decide) (Nat.le_of_ble_eq_true rfl) hd172 dX8_init_251 rfl hF (fun H ad g173 ι174 X hP hag he175 hk176 hl hF => ?_)
  show WHv p l e ({ frames := 1, cells := BC, slots := BS, locals := 20 } : Room) s m args below meth c D dA ad0 g0 A Q BC BS H locs (14) (1948) (F0 m 253 ls [rv ad (200 + gN g169), rv ad a0])
  have hm177 : gK g173 a0 = 1 := (by rw [hk176.2 _ (ltm (ltm (ltm (ltm hx155 (Nat.le_of_succ_le he159)) (Nat.le_of_eq he162.1.symm)) (Nat.le_of_succ_le he166)) (Nat.le_of_eq he170.1.symm))]; exact (by rw [he170.2.1]; exact hm168))
  refine hg_putrF 0 24 X in_X8 tyX8 tyX8_ok nmX8 hP hm177 q1794 hnm dX8_init_253 (ltw he175) hF (fun H locs g178 hP he179 hF => ?_) (Or.inr ⟨_, rfl⟩)
  have hag : HA ad0 g0 ad g178 := ⟨by rw [he179.1]; exact hag.1, hag.2⟩
  refine ph_aload_n (n := 0) X hl dX8_init_256 rfl rfl ?_
  refine lv_sipush (v := 720) X.1 X.2.1 dX8_init_257 (by decide) ?_
  have hx180 : a0 < 200 + gN g178 := (ltm (ltm (ltm (ltm (ltm (ltm hx155 (Nat.le_of_succ_le he159)) (Nat.le_of_eq he162.1.symm)) (Nat.le_of_succ_le he166)) (Nat.le_of_eq he170.1.symm)) (Nat.le_of_succ_le he175)) (Nat.le_of_eq he179.1.symm))
  obtain ⟨hd181, hF⟩ := hF
  refine hg_newaI [pX a0] X hP hag hl (ltlp hx180 ltln) (ltsp hx180 ltsn) q516 (by decide) (by decide) (Nat.le_of_ble_eq_true rfl) hd181 dX8_init_260 rfl hF (fun H ad g182 ι183 X hP hag he184 hk185 hl hF => ?_)
  show WHv p l e ({ frames := 1, cells := BC, slots := BS, locals := 20 } : Room) s m args below meth c D dA ad0 g0 A Q BC BS H locs (15) (2668) (F0 m 262 ls [rv ad (200 + gN g178), rv ad a0])
  refine hg_putrF 0 25 X in_X8 tyX8 tyX8_ok nmX8 hP (by rw [hk185.2 _ hx180]; exact (by rw [he179.2.1]; exact hm177)) q1795 hnm dX8_init_262 (ltw he184) hF (fun H locs g186 hP he187 hF => ?_) (Or.inr ⟨_, rfl⟩)
  have hag : HA ad0 g0 ad g186 := ⟨by rw [he187.1]; exact hag.1, hag.2⟩
  refine ph_aload_n (n := 0) X hl dX8_init_265 rfl rfl ?_
  refine lv_iconst (v := (-1)) X.1 X.2.1 dX8_init_266 (by decide) ?_
  refine hg_puti 0 27 X in_X8 tyX8 tyX8_ok nmX8 hP (by rw [he187.2.1]; exact (by rw [hk185.2 _ hx180]; exact (by rw [he179.2.1]; exact hm177))) q1797 dX8_init_267 rfl rfl hF (fun H locs ι188 hP hF => ?_)
  refine ph_aload_n (n := 0) X hl dX8_init_270 rfl rfl ?_
  refine lv_bipush (v := 7) X.1 X.2.1 dX8_init_271 (by decide) ?_
  obtain ⟨hd189, hF⟩ := hF
  refine hg_newaI [pX a0] X hP hag hl (ltlp (ltm (ltm hx180 (Nat.le_of_succ_le he184)) (Nat.le_of_eq he187.1.symm)) ltln) (ltsp (ltm (ltm hx180 (Nat.le_of_succ_le he184)) (Nat.le_of_eq he187.1.symm)) ltsn) q516 (by decide) (by decide) (Nat.le_of_ble_eq_true rfl) hd189 dX8_init_273 rfl hF (fun H ad g190 ι191 X hP hag he192 hk193 hl hF => ?_)
  show WHv p l e ({ frames := 1, cells := BC, slots := BS, locals := 20 } : Room) s m args below meth c D dA ad0 g0 A Q BC BS H locs (16) (2675) (F0 m 275 ls [rv ad (200 + gN g186), rv ad a0])
  have hm194 : gK g190 a0 = 1 := (by rw [hk193.2 _ (ltm (ltm hx180 (Nat.le_of_succ_le he184)) (Nat.le_of_eq he187.1.symm))]; exact (by rw [he187.2.1]; exact (by rw [hk185.2 _ hx180]; exact (by rw [he179.2.1]; exact hm177))))
  refine hg_putrF 0 32 X in_X8 tyX8 tyX8_ok nmX8 hP hm194 q1802 hnm dX8_init_275 (ltw he192) hF (fun H locs g195 hP he196 hF => ?_) (Or.inr ⟨_, rfl⟩)
  have hag : HA ad0 g0 ad g195 := ⟨by rw [he196.1]; exact hag.1, hag.2⟩
  refine ph_aload_n (n := 0) X hl dX8_init_278 rfl rfl ?_
  refine lv_bipush (v := 64) X.1 X.2.1 dX8_init_279 (by decide) ?_
  obtain ⟨hd197, hF⟩ := hF
  refine hg_newaI [pX a0] X hP hag hl (ltlp (ltm (ltm (ltm (ltm hx180 (Nat.le_of_succ_le he184)) (Nat.le_of_eq he187.1.symm)) (Nat.le_of_succ_le he192)) (Nat.le_of_eq he196.1.symm)) ltln) (ltsp (ltm (ltm (ltm (ltm hx180 (Nat.le_of_succ_le he184)) (Nat.le_of_eq he187.1.symm)) (Nat.le_of_succ_le he192)) (Nat.le_of_eq he196.1.symm)) ltsn) q516 (by decide) (by decide) (Nat.le_of_ble_eq_true rfl) hd197 dX8_init_281 rfl hF (fun H ad g198 ι199 X hP hag he200 hk201 hl hF => ?_)
  show WHv p l e ({ frames := 1, cells := BC, slots := BS, locals := 20 } : Room) s m args below meth c D dA ad0 g0 A Q BC BS H locs (17) (2739) (F0 m 283 ls [rv ad (200 + gN g195), rv ad a0])
  have hm202 : gK g198 a0 = 1 := (by rw [hk201.2 _ (ltm (ltm (ltm (ltm hx180 (Nat.le_of_succ_le he184)) (Nat.le_of_eq he187.1.symm)) (Nat.le_of_succ_le he192)) (Nat.le_of_eq he196.1.symm))]; exact (by rw [he196.2.1]; exact hm194))
  refine hg_putrF 0 33 X in_X8 tyX8 tyX8_ok nmX8 hP hm202 q1803 hnm dX8_init_283 (ltw he200) hF (fun H locs g203 hP he204 hF => ?_) (Or.inr ⟨_, rfl⟩)
  have hag : HA ad0 g0 ad g203 := ⟨by rw [he204.1]; exact hag.1, hag.2⟩
  refine ph_aload_n (n := 0) X hl dX8_init_286 rfl rfl ?_
  refine lv_bipush (v := 7) X.1 X.2.1 dX8_init_287 (by decide) ?_
  have hx205 : a0 < 200 + gN g203 := (ltm (ltm (ltm (ltm (ltm (ltm hx180 (Nat.le_of_succ_le he184)) (Nat.le_of_eq he187.1.symm)) (Nat.le_of_succ_le he192)) (Nat.le_of_eq he196.1.symm)) (Nat.le_of_succ_le he200)) (Nat.le_of_eq he204.1.symm))
  obtain ⟨hd206, hF⟩ := hF
  refine hg_newaI [pX a0] X hP hag hl (ltlp hx205 ltln) (ltsp hx205 ltsn) q516 (by decide) (by decide) (Nat.le_of_ble_eq_true rfl) hd206 dX8_init_289 rfl hF (fun H ad g207 ι208 X hP hag he209 hk210 hl hF => ?_)
  show WHv p l e ({ frames := 1, cells := BC, slots := BS, locals := 20 } : Room) s m args below meth c D dA ad0 g0 A Q BC BS H locs (18) (2746) (F0 m 291 ls [rv ad (200 + gN g203), rv ad a0])
  refine hg_putrF 0 34 X in_X8 tyX8 tyX8_ok nmX8 hP (by rw [hk210.2 _ hx205]; exact (by rw [he204.2.1]; exact hm202)) q1804 hnm dX8_init_291 (ltw he209) hF (fun H locs g211 hP he212 hF => ?_) (Or.inr ⟨_, rfl⟩)
  have hag : HA ad0 g0 ad g211 := ⟨by rw [he212.1]; exact hag.1, hag.2⟩
  refine ph_aload_n (n := 0) X hl dX8_init_294 rfl rfl ?_
  refine lv_bipush (v := 7) X.1 X.2.1 dX8_init_295 (by decide) ?_
  obtain ⟨hd213, hF⟩ := hF
  refine hg_newaI [pX a0] X hP hag hl (ltlp (ltm (ltm hx205 (Nat.le_of_succ_le he209)) (Nat.le_of_eq he212.1.symm)) ltln) (ltsp (ltm (ltm hx205 (Nat.le_of_succ_le he209)) (Nat.le_of_eq he212.1.symm)) ltsn) q516 (by decide) (by decide) (Nat.le_of_ble_eq_true rfl) hd213 dX8_init_297 rfl hF (fun H ad g214 ι215 X hP hag he216 hk217 hl hF => ?_)
  show WHv p l e ({ frames := 1, cells := BC, slots := BS, locals := 20 } : Room) s m args below meth c D dA ad0 g0 A Q BC BS H locs (19) (2753) (F0 m 299 ls [rv ad (200 + gN g211), rv ad a0])
  have hm218 : gK g214 a0 = 1 := (by rw [hk217.2 _ (ltm (ltm hx205 (Nat.le_of_succ_le he209)) (Nat.le_of_eq he212.1.symm))]; exact (by rw [he212.2.1]; exact (by rw [hk210.2 _ hx205]; exact (by rw [he204.2.1]; exact hm202))))
  refine hg_putrF 0 35 X in_X8 tyX8 tyX8_ok nmX8 hP hm218 q1805 hnm dX8_init_299 (ltw he216) hF (fun H locs g219 hP he220 hF => ?_) (Or.inr ⟨_, rfl⟩)
  have hag : HA ad0 g0 ad g219 := ⟨by rw [he220.1]; exact hag.1, hag.2⟩
  refine ph_aload_n (n := 0) X hl dX8_init_302 rfl rfl ?_
  refine lv_bipush (v := 7) X.1 X.2.1 dX8_init_303 (by decide) ?_
  obtain ⟨hd221, hF⟩ := hF
  refine hg_newaI [pX a0] X hP hag hl (ltlp (ltm (ltm (ltm (ltm hx205 (Nat.le_of_succ_le he209)) (Nat.le_of_eq he212.1.symm)) (Nat.le_of_succ_le he216)) (Nat.le_of_eq he220.1.symm)) ltln) (ltsp (ltm (ltm (ltm (ltm hx205 (Nat.le_of_succ_le he209)) (Nat.le_of_eq he212.1.symm)) (Nat.le_of_succ_le he216)) (Nat.le_of_eq he220.1.symm)) ltsn) q516 (by decide) (by decide) (Nat.le_of_ble_eq_true rfl) hd221 dX8_init_305 rfl hF (fun H ad g222 ι223 X hP hag he224 hk225 hl hF => ?_)
  show WHv p l e ({ frames := 1, cells := BC, slots := BS, locals := 20 } : Room) s m args below meth c D dA ad0 g0 A Q BC BS H locs (20) (2760) (F0 m 307 ls [rv ad (200 + gN g219), rv ad a0])
  have hm226 : gK g222 a0 = 1 := (by rw [hk225.2 _ (ltm (ltm (ltm (ltm hx205 (Nat.le_of_succ_le he209)) (Nat.le_of_eq he212.1.symm)) (Nat.le_of_succ_le he216)) (Nat.le_of_eq he220.1.symm))]; exact (by rw [he220.2.1]; exact hm218))
  refine hg_putrF 0 36 X in_X8 tyX8 tyX8_ok nmX8 hP hm226 q1806 hnm dX8_init_307 (ltw he224) hF (fun H locs g227 hP he228 hF => ?_) (Or.inr ⟨_, rfl⟩)
  have hag : HA ad0 g0 ad g227 := ⟨by rw [he228.1]; exact hag.1, hag.2⟩
  refine ph_aload_n (n := 0) X hl dX8_init_310 rfl rfl ?_
  refine lv_bipush (v := 7) X.1 X.2.1 dX8_init_311 (by decide) ?_
  have hx229 : a0 < 200 + gN g227 := (ltm (ltm (ltm (ltm (ltm (ltm hx205 (Nat.le_of_succ_le he209)) (Nat.le_of_eq he212.1.symm)) (Nat.le_of_succ_le he216)) (Nat.le_of_eq he220.1.symm)) (Nat.le_of_succ_le he224)) (Nat.le_of_eq he228.1.symm))
  obtain ⟨hd230, hF⟩ := hF
  refine hg_newaI [pX a0] X hP hag hl (ltlp hx229 ltln) (ltsp hx229 ltsn) q516 (by decide) (by decide) (Nat.le_of_ble_eq_true rfl) hd230 dX8_init_313 rfl hF (fun H ad g231 ι232 X hP hag he233 hk234 hl hF => ?_)
  show WHv p l e ({ frames := 1, cells := BC, slots := BS, locals := 20 } : Room) s m args below meth c D dA ad0 g0 A Q BC BS H locs (21) (2767) (F0 m 315 ls [rv ad (200 + gN g227), rv ad a0])
  refine hg_putrF 0 37 X in_X8 tyX8 tyX8_ok nmX8 hP (by rw [hk234.2 _ hx229]; exact (by rw [he228.2.1]; exact hm226)) q1807 hnm dX8_init_315 (ltw he233) hF (fun H locs g235 hP he236 hF => ?_) (Or.inr ⟨_, rfl⟩)
  have hag : HA ad0 g0 ad g235 := ⟨by rw [he236.1]; exact hag.1, hag.2⟩
  refine ph_aload_n (n := 0) X hl dX8_init_318 rfl rfl ?_
  refine lv_bipush (v := 7) X.1 X.2.1 dX8_init_319 (by decide) ?_
  obtain ⟨hd237, hF⟩ := hF
  refine hg_newaI [pX a0] X hP hag hl (ltlp (ltm (ltm hx229 (Nat.le_of_succ_le he233)) (Nat.le_of_eq he236.1.symm)) ltln) (ltsp (ltm (ltm hx229 (Nat.le_of_succ_le he233)) (Nat.le_of_eq he236.1.symm)) ltsn) q516 (by decide) (by decide) (Nat.le_of_ble_eq_true rfl) hd237 dX8_init_321 rfl hF (fun H ad g238 ι239 X hP hag he240 hk241 hl hF => ?_)
  show WHv p l e ({ frames := 1, cells := BC, slots := BS, locals := 20 } : Room) s m args below meth c D dA ad0 g0 A Q BC BS H locs (22) (2774) (F0 m 323 ls [rv ad (200 + gN g235), rv ad a0])
  have hm242 : gK g238 a0 = 1 := (by rw [hk241.2 _ (ltm (ltm hx229 (Nat.le_of_succ_le he233)) (Nat.le_of_eq he236.1.symm))]; exact (by rw [he236.2.1]; exact (by rw [hk234.2 _ hx229]; exact (by rw [he228.2.1]; exact hm226))))
  refine hg_putrF 0 38 X in_X8 tyX8 tyX8_ok nmX8 hP hm242 q1808 hnm dX8_init_323 (ltw he240) hF (fun H locs g243 hP he244 hF => ?_) (Or.inr ⟨_, rfl⟩)
  have hag : HA ad0 g0 ad g243 := ⟨by rw [he244.1]; exact hag.1, hag.2⟩
  refine ph_aload_n (n := 0) X hl dX8_init_326 rfl rfl ?_
  refine lv_bipush (v := 7) X.1 X.2.1 dX8_init_327 (by decide) ?_
  obtain ⟨hd245, hF⟩ := hF
  refine hg_newaI [pX a0] X hP hag hl (ltlp (ltm (ltm (ltm (ltm hx229 (Nat.le_of_succ_le he233)) (Nat.le_of_eq he236.1.symm)) (Nat.le_of_succ_le he240)) (Nat.le_of_eq he244.1.symm)) ltln) (ltsp (ltm (ltm (ltm (ltm hx229 (Nat.le_of_succ_le he233)) (Nat.le_of_eq he236.1.symm)) (Nat.le_of_succ_le he240)) (Nat.le_of_eq he244.1.symm)) ltsn) q516 (by decide) (by decide) (Nat.le_of_ble_eq_true rfl) hd245 dX8_init_329 rfl hF (fun H ad g246 ι247 X hP hag he248 hk249 hl hF => ?_)
  show WHv p l e ({ frames := 1, cells := BC, slots := BS, locals := 20 } : Room) s m args below meth c D dA ad0 g0 A Q BC BS H locs (23) (2781) (F0 m 331 ls [rv ad (200 + gN g243), rv ad a0])
  have hm250 : gK g246 a0 = 1 := (by rw [hk249.2 _ (ltm (ltm (ltm (ltm hx229 (Nat.le_of_succ_le he233)) (Nat.le_of_eq he236.1.symm)) (Nat.le_of_succ_le he240)) (Nat.le_of_eq he244.1.symm))]; exact (by rw [he244.2.1]; exact hm242))
  refine hg_putrF 0 39 X in_X8 tyX8 tyX8_ok nmX8 hP hm250 q1809 hnm dX8_init_331 (ltw he248) hF (fun H locs g251 hP he252 hF => ?_) (Or.inr ⟨_, rfl⟩)
  have hag : HA ad0 g0 ad g251 := ⟨by rw [he252.1]; exact hag.1, hag.2⟩
  refine ph_aload_n (n := 0) X hl dX8_init_334 rfl rfl ?_
  refine lv_bipush (v := 7) X.1 X.2.1 dX8_init_335 (by decide) ?_
  have hx253 : a0 < 200 + gN g251 := (ltm (ltm (ltm (ltm (ltm (ltm hx229 (Nat.le_of_succ_le he233)) (Nat.le_of_eq he236.1.symm)) (Nat.le_of_succ_le he240)) (Nat.le_of_eq he244.1.symm)) (Nat.le_of_succ_le he248)) (Nat.le_of_eq he252.1.symm))
  obtain ⟨hd254, hF⟩ := hF
  refine hg_newaI [pX a0] X hP hag hl (ltlp hx253 ltln) (ltsp hx253 ltsn) q516 (by decide) (by decide) (Nat.le_of_ble_eq_true rfl) hd254 dX8_init_337 rfl hF (fun H ad g255 ι256 X hP hag he257 hk258 hl hF => ?_)
  show WHv p l e ({ frames := 1, cells := BC, slots := BS, locals := 20 } : Room) s m args below meth c D dA ad0 g0 A Q BC BS H locs (24) (2788) (F0 m 339 ls [rv ad (200 + gN g251), rv ad a0])
  refine hg_putrF 0 40 X in_X8 tyX8 tyX8_ok nmX8 hP (by rw [hk258.2 _ hx253]; exact (by rw [he252.2.1]; exact hm250)) q1810 hnm dX8_init_339 (ltw he257) hF (fun H locs g259 hP he260 hF => ?_) (Or.inr ⟨_, rfl⟩)
  have hag : HA ad0 g0 ad g259 := ⟨by rw [he260.1]; exact hag.1, hag.2⟩
  refine ph_aload_n (n := 0) X hl dX8_init_342 rfl rfl ?_
  refine lv_sipush (v := 1200) X.1 X.2.1 dX8_init_343 (by decide) ?_
  obtain ⟨hd261, hF⟩ := hF
  refine hg_newaI [pX a0] X hP hag hl (ltlp (ltm (ltm hx253 (Nat.le_of_succ_le he257)) (Nat.le_of_eq he260.1.symm)) ltln) (ltsp (ltm (ltm hx253 (Nat.le_of_succ_le he257)) (Nat.le_of_eq he260.1.symm)) ltsn) q516 (by decide) (by decide) (Nat.le_of_ble_eq_true rfl) hd261 dX8_init_346 rfl hF (fun H ad g262 ι263 X hP hag he264 hk265 hl hF => ?_)
  show WHv p l e ({ frames := 1, cells := BC, slots := BS, locals := 20 } : Room) s m args below meth c D dA ad0 g0 A Q BC BS H locs (25) (3988) (F0 m 348 ls [rv ad (200 + gN g259), rv ad a0])
  have hm266 : gK g262 a0 = 1 := (by rw [hk265.2 _ (ltm (ltm hx253 (Nat.le_of_succ_le he257)) (Nat.le_of_eq he260.1.symm))]; exact (by rw [he260.2.1]; exact (by rw [hk258.2 _ hx253]; exact (by rw [he252.2.1]; exact hm250))))
  refine hg_putrF 0 41 X in_X8 tyX8 tyX8_ok nmX8 hP hm266 q1811 hnm dX8_init_348 (ltw he264) hF (fun H locs g267 hP he268 hF => ?_) (Or.inr ⟨_, rfl⟩)
  have hag : HA ad0 g0 ad g267 := ⟨by rw [he268.1]; exact hag.1, hag.2⟩
  refine ph_aload_n (n := 0) X hl dX8_init_351 rfl rfl ?_
  refine lv_sipush (v := 1200) X.1 X.2.1 dX8_init_352 (by decide) ?_
  obtain ⟨hd269, hF⟩ := hF
  refine hg_newaI [pX a0] X hP hag hl (ltlp (ltm (ltm (ltm (ltm hx253 (Nat.le_of_succ_le he257)) (Nat.le_of_eq he260.1.symm)) (Nat.le_of_succ_le he264)) (Nat.le_of_eq he268.1.symm)) ltln) (ltsp (ltm (ltm (ltm (ltm hx253 (Nat.le_of_succ_le he257)) (Nat.le_of_eq he260.1.symm)) (Nat.le_of_succ_le he264)) (Nat.le_of_eq he268.1.symm)) ltsn) q516 (by decide) (by decide) (Nat.le_of_ble_eq_true rfl) hd269 dX8_init_355 rfl hF (fun H ad g270 ι271 X hP hag he272 hk273 hl hF => ?_)
  show WHv p l e ({ frames := 1, cells := BC, slots := BS, locals := 20 } : Room) s m args below meth c D dA ad0 g0 A Q BC BS H locs (26) (5188) (F0 m 357 ls [rv ad (200 + gN g267), rv ad a0])
  have hm274 : gK g270 a0 = 1 := (by rw [hk273.2 _ (ltm (ltm (ltm (ltm hx253 (Nat.le_of_succ_le he257)) (Nat.le_of_eq he260.1.symm)) (Nat.le_of_succ_le he264)) (Nat.le_of_eq he268.1.symm))]; exact (by rw [he268.2.1]; exact hm266))
  refine hg_putrF 0 42 X in_X8 tyX8 tyX8_ok nmX8 hP hm274 q1812 hnm dX8_init_357 (ltw he272) hF (fun H locs g275 hP he276 hF => ?_) (Or.inr ⟨_, rfl⟩)
  have hag : HA ad0 g0 ad g275 := ⟨by rw [he276.1]; exact hag.1, hag.2⟩
  refine ph_aload_n (n := 0) X hl dX8_init_360 rfl rfl ?_
  refine lv_sipush (v := 1200) X.1 X.2.1 dX8_init_361 (by decide) ?_
  have hx277 : a0 < 200 + gN g275 := (ltm (ltm (ltm (ltm (ltm (ltm hx253 (Nat.le_of_succ_le he257)) (Nat.le_of_eq he260.1.symm)) (Nat.le_of_succ_le he264)) (Nat.le_of_eq he268.1.symm)) (Nat.le_of_succ_le he272)) (Nat.le_of_eq he276.1.symm))
  obtain ⟨hd278, hF⟩ := hF
  refine hg_newaI [pX a0] X hP hag hl (ltlp hx277 ltln) (ltsp hx277 ltsn) q516 (by decide) (by decide) (Nat.le_of_ble_eq_true rfl) hd278 dX8_init_364 rfl hF (fun H ad g279 ι280 X hP hag he281 hk282 hl hF => ?_)
  show WHv p l e ({ frames := 1, cells := BC, slots := BS, locals := 20 } : Room) s m args below meth c D dA ad0 g0 A Q BC BS H locs (27) (6388) (F0 m 366 ls [rv ad (200 + gN g275), rv ad a0])
  refine hg_putrF 0 43 X in_X8 tyX8 tyX8_ok nmX8 hP (by rw [hk282.2 _ hx277]; exact (by rw [he276.2.1]; exact hm274)) q1813 hnm dX8_init_366 (ltw he281) hF (fun H locs g283 hP he284 hF => ?_) (Or.inr ⟨_, rfl⟩)
  have hag : HA ad0 g0 ad g283 := ⟨by rw [he284.1]; exact hag.1, hag.2⟩
  refine ph_aload_n (n := 0) X hl dX8_init_369 rfl rfl ?_
  refine lv_sipush (v := 1200) X.1 X.2.1 dX8_init_370 (by decide) ?_
  obtain ⟨hd285, hF⟩ := hF
  refine hg_newaI [pX a0] X hP hag hl (ltlp (ltm (ltm hx277 (Nat.le_of_succ_le he281)) (Nat.le_of_eq he284.1.symm)) ltln) (ltsp (ltm (ltm hx277 (Nat.le_of_succ_le he281)) (Nat.le_of_eq he284.1.symm)) ltsn) q516 (by decide) (by decide) (Nat.le_of_ble_eq_true rfl) hd285 dX8_init_373 rfl hF (fun H ad g286 ι287 X hP hag he288 hk289 hl hF => ?_)
  show WHv p l e ({ frames := 1, cells := BC, slots := BS, locals := 20 } : Room) s m args below meth c D dA ad0 g0 A Q BC BS H locs (28) (7588) (F0 m 375 ls [rv ad (200 + gN g283), rv ad a0])
  have hm290 : gK g286 a0 = 1 := (by rw [hk289.2 _ (ltm (ltm hx277 (Nat.le_of_succ_le he281)) (Nat.le_of_eq he284.1.symm))]; exact (by rw [he284.2.1]; exact (by rw [hk282.2 _ hx277]; exact (by rw [he276.2.1]; exact hm274))))
  refine hg_putrF 0 44 X in_X8 tyX8 tyX8_ok nmX8 hP hm290 q1814 hnm dX8_init_375 (ltw he288) hF (fun H locs g291 hP he292 hF => ?_) (Or.inr ⟨_, rfl⟩)
  have hag : HA ad0 g0 ad g291 := ⟨by rw [he292.1]; exact hag.1, hag.2⟩
  refine ph_aload_n (n := 0) X hl dX8_init_378 rfl rfl ?_
  refine lv_bipush (v := 7) X.1 X.2.1 dX8_init_379 (by decide) ?_
  obtain ⟨hd293, hF⟩ := hF
  refine hg_newaI [pX a0] X hP hag hl (ltlp (ltm (ltm (ltm (ltm hx277 (Nat.le_of_succ_le he281)) (Nat.le_of_eq he284.1.symm)) (Nat.le_of_succ_le he288)) (Nat.le_of_eq he292.1.symm)) ltln) (ltsp (ltm (ltm (ltm (ltm hx277 (Nat.le_of_succ_le he281)) (Nat.le_of_eq he284.1.symm)) (Nat.le_of_succ_le he288)) (Nat.le_of_eq he292.1.symm)) ltsn) q516 (by decide) (by decide) (Nat.le_of_ble_eq_true rfl) hd293 dX8_init_381 rfl hF (fun H ad g294 ι295 X hP hag he296 hk297 hl hF => ?_)
  show WHv p l e ({ frames := 1, cells := BC, slots := BS, locals := 20 } : Room) s m args below meth c D dA ad0 g0 A Q BC BS H locs (29) (7595) (F0 m 383 ls [rv ad (200 + gN g291), rv ad a0])
  have hm298 : gK g294 a0 = 1 := (by rw [hk297.2 _ (ltm (ltm (ltm (ltm hx277 (Nat.le_of_succ_le he281)) (Nat.le_of_eq he284.1.symm)) (Nat.le_of_succ_le he288)) (Nat.le_of_eq he292.1.symm))]; exact (by rw [he292.2.1]; exact hm290))
  refine hg_putrF 0 54 X in_X8 tyX8 tyX8_ok nmX8 hP hm298 q1824 hnm dX8_init_383 (ltw he296) hF (fun H locs g299 hP he300 hF => ?_) (Or.inr ⟨_, rfl⟩)
  have hag : HA ad0 g0 ad g299 := ⟨by rw [he300.1]; exact hag.1, hag.2⟩
  refine ph_aload_n (n := 0) X hl dX8_init_386 rfl rfl ?_
  refine lv_bipush (v := 7) X.1 X.2.1 dX8_init_387 (by decide) ?_
  have hx301 : a0 < 200 + gN g299 := (ltm (ltm (ltm (ltm (ltm (ltm hx277 (Nat.le_of_succ_le he281)) (Nat.le_of_eq he284.1.symm)) (Nat.le_of_succ_le he288)) (Nat.le_of_eq he292.1.symm)) (Nat.le_of_succ_le he296)) (Nat.le_of_eq he300.1.symm))
  obtain ⟨hd302, hF⟩ := hF
  refine hg_newaI [pX a0] X hP hag hl (ltlp hx301 ltln) (ltsp hx301 ltsn) q516 (by decide) (by decide) (Nat.le_of_ble_eq_true rfl) hd302 dX8_init_389 rfl hF (fun H ad g303 ι304 X hP hag he305 hk306 hl hF => ?_)
  show WHv p l e ({ frames := 1, cells := BC, slots := BS, locals := 20 } : Room) s m args below meth c D dA ad0 g0 A Q BC BS H locs (30) (7602) (F0 m 391 ls [rv ad (200 + gN g299), rv ad a0])
  refine hg_putrF 0 55 X in_X8 tyX8 tyX8_ok nmX8 hP (by rw [hk306.2 _ hx301]; exact (by rw [he300.2.1]; exact hm298)) q1825 hnm dX8_init_391 (ltw he305) hF (fun H locs g307 hP he308 hF => ?_) (Or.inr ⟨_, rfl⟩)
  have hag : HA ad0 g0 ad g307 := ⟨by rw [he308.1]; exact hag.1, hag.2⟩
  refine ph_aload_n (n := 0) X hl dX8_init_394 rfl rfl ?_
  refine lv_bipush (v := 7) X.1 X.2.1 dX8_init_395 (by decide) ?_
  obtain ⟨hd309, hF⟩ := hF
  refine hg_newaI [pX a0] X hP hag hl (ltlp (ltm (ltm hx301 (Nat.le_of_succ_le he305)) (Nat.le_of_eq he308.1.symm)) ltln) (ltsp (ltm (ltm hx301 (Nat.le_of_succ_le he305)) (Nat.le_of_eq he308.1.symm)) ltsn) q516 (by decide) (by decide) (Nat.le_of_ble_eq_true rfl) hd309 dX8_init_397 rfl hF (fun H ad g310 ι311 X hP hag he312 hk313 hl hF => ?_)
  show WHv p l e ({ frames := 1, cells := BC, slots := BS, locals := 20 } : Room) s m args below meth c D dA ad0 g0 A Q BC BS H locs (31) (7609) (F0 m 399 ls [rv ad (200 + gN g307), rv ad a0])
  have hm314 : gK g310 a0 = 1 := (by rw [hk313.2 _ (ltm (ltm hx301 (Nat.le_of_succ_le he305)) (Nat.le_of_eq he308.1.symm))]; exact (by rw [he308.2.1]; exact (by rw [hk306.2 _ hx301]; exact (by rw [he300.2.1]; exact hm298))))
  refine hg_putrF 0 59 X in_X8 tyX8 tyX8_ok nmX8 hP hm314 q1829 hnm dX8_init_399 (ltw he312) hF (fun H locs g315 hP he316 hF => ?_) (Or.inr ⟨_, rfl⟩)
  have hag : HA ad0 g0 ad g315 := ⟨by rw [he316.1]; exact hag.1, hag.2⟩
  refine ph_aload_n (n := 0) X hl dX8_init_402 rfl rfl ?_
  refine lv_bipush (v := 8) X.1 X.2.1 dX8_init_403 (by decide) ?_
  obtain ⟨hd317, hF⟩ := hF
  refine hg_newaI [pX a0] X hP hag hl (ltlp (ltm (ltm (ltm (ltm hx301 (Nat.le_of_succ_le he305)) (Nat.le_of_eq he308.1.symm)) (Nat.le_of_succ_le he312)) (Nat.le_of_eq he316.1.symm)) ltln) (ltsp (ltm (ltm (ltm (ltm hx301 (Nat.le_of_succ_le he305)) (Nat.le_of_eq he308.1.symm)) (Nat.le_of_succ_le he312)) (Nat.le_of_eq he316.1.symm)) ltsn) q516 (by decide) (by decide) (Nat.le_of_ble_eq_true rfl) hd317 dX8_init_405 rfl hF (fun H ad g318 ι319 X hP hag he320 hk321 hl hF => ?_)
  show WHv p l e ({ frames := 1, cells := BC, slots := BS, locals := 20 } : Room) s m args below meth c D dA ad0 g0 A Q BC BS H locs (32) (7617) (F0 m 407 ls [rv ad (200 + gN g315), rv ad a0])
  have hm322 : gK g318 a0 = 1 := (by rw [hk321.2 _ (ltm (ltm (ltm (ltm hx301 (Nat.le_of_succ_le he305)) (Nat.le_of_eq he308.1.symm)) (Nat.le_of_succ_le he312)) (Nat.le_of_eq he316.1.symm))]; exact (by rw [he316.2.1]; exact hm314))
  refine hg_putrF 0 60 X in_X8 tyX8 tyX8_ok nmX8 hP hm322 q1830 hnm dX8_init_407 (ltw he320) hF (fun H locs g323 hP he324 hF => ?_) (Or.inr ⟨_, rfl⟩)
  have hag : HA ad0 g0 ad g323 := ⟨by rw [he324.1]; exact hag.1, hag.2⟩
  refine ph_aload_n (n := 0) X hl dX8_init_410 rfl rfl ?_
  refine lv_bipush (v := 8) X.1 X.2.1 dX8_init_411 (by decide) ?_
  have hx325 : a0 < 200 + gN g323 := (ltm (ltm (ltm (ltm (ltm (ltm hx301 (Nat.le_of_succ_le he305)) (Nat.le_of_eq he308.1.symm)) (Nat.le_of_succ_le he312)) (Nat.le_of_eq he316.1.symm)) (Nat.le_of_succ_le he320)) (Nat.le_of_eq he324.1.symm))
  obtain ⟨hd326, hF⟩ := hF
  refine hg_newaI [pX a0] X hP hag hl (ltlp hx325 ltln) (ltsp hx325 ltsn) q516 (by decide) (by decide) (Nat.le_of_ble_eq_true rfl) hd326 dX8_init_413 rfl hF (fun H ad g327 ι328 X hP hag he329 hk330 hl hF => ?_)
  show WHv p l e ({ frames := 1, cells := BC, slots := BS, locals := 20 } : Room) s m args below meth c D dA ad0 g0 A Q BC BS H locs (33) (7625) (F0 m 415 ls [rv ad (200 + gN g323), rv ad a0])
  refine hg_putrF 0 61 X in_X8 tyX8 tyX8_ok nmX8 hP (by rw [hk330.2 _ hx325]; exact (by rw [he324.2.1]; exact hm322)) q1831 hnm dX8_init_415 (ltw he329) hF (fun H locs g331 hP he332 hF => ?_) (Or.inr ⟨_, rfl⟩)
  have hag : HA ad0 g0 ad g331 := ⟨by rw [he332.1]; exact hag.1, hag.2⟩
  refine ph_aload_n (n := 0) X hl dX8_init_418 rfl rfl ?_
  refine lv_bipush (v := 8) X.1 X.2.1 dX8_init_419 (by decide) ?_
  obtain ⟨hd333, hF⟩ := hF
  refine hg_newaI [pX a0] X hP hag hl (ltlp (ltm (ltm hx325 (Nat.le_of_succ_le he329)) (Nat.le_of_eq he332.1.symm)) ltln) (ltsp (ltm (ltm hx325 (Nat.le_of_succ_le he329)) (Nat.le_of_eq he332.1.symm)) ltsn) q516 (by decide) (by decide) (Nat.le_of_ble_eq_true rfl) hd333 dX8_init_421 rfl hF (fun H ad g334 ι335 X hP hag he336 hk337 hl hF => ?_)
  show WHv p l e ({ frames := 1, cells := BC, slots := BS, locals := 20 } : Room) s m args below meth c D dA ad0 g0 A Q BC BS H locs (34) (7633) (F0 m 423 ls [rv ad (200 + gN g331), rv ad a0])
  have hm338 : gK g334 a0 = 1 := (by rw [hk337.2 _ (ltm (ltm hx325 (Nat.le_of_succ_le he329)) (Nat.le_of_eq he332.1.symm))]; exact (by rw [he332.2.1]; exact (by rw [hk330.2 _ hx325]; exact (by rw [he324.2.1]; exact hm322))))
  refine hg_putrF 0 62 X in_X8 tyX8 tyX8_ok nmX8 hP hm338 q1832 hnm dX8_init_423 (ltw he336) hF (fun H locs g339 hP he340 hF => ?_) (Or.inr ⟨_, rfl⟩)
  have hag : HA ad0 g0 ad g339 := ⟨by rw [he340.1]; exact hag.1, hag.2⟩
  refine ph_aload_n (n := 0) X hl dX8_init_426 rfl rfl ?_
  refine lv_bipush (v := 18) X.1 X.2.1 dX8_init_427 (by decide) ?_
  obtain ⟨hd341, hF⟩ := hF
  refine hg_newaI [pX a0] X hP hag hl (ltlp (ltm (ltm (ltm (ltm hx325 (Nat.le_of_succ_le he329)) (Nat.le_of_eq he332.1.symm)) (Nat.le_of_succ_le he336)) (Nat.le_of_eq he340.1.symm)) ltln) (ltsp (ltm (ltm (ltm (ltm hx325 (Nat.le_of_succ_le he329)) (Nat.le_of_eq he332.1.symm)) (Nat.le_of_succ_le he336)) (Nat.le_of_eq he340.1.symm)) ltsn) q516 (by decide) (by decide) (Nat.le_of_ble_eq_true rfl) hd341 dX8_init_429 rfl hF (fun H ad g342 ι343 X hP hag he344 hk345 hl hF => ?_)
  show WHv p l e ({ frames := 1, cells := BC, slots := BS, locals := 20 } : Room) s m args below meth c D dA ad0 g0 A Q BC BS H locs (35) (7651) (F0 m 431 ls [rv ad (200 + gN g339), rv ad a0])
  have hm346 : gK g342 a0 = 1 := (by rw [hk345.2 _ (ltm (ltm (ltm (ltm hx325 (Nat.le_of_succ_le he329)) (Nat.le_of_eq he332.1.symm)) (Nat.le_of_succ_le he336)) (Nat.le_of_eq he340.1.symm))]; exact (by rw [he340.2.1]; exact hm338))
  refine hg_putrF 0 67 X in_X8 tyX8 tyX8_ok nmX8 hP hm346 q1837 hnm dX8_init_431 (ltw he344) hF (fun H locs g347 hP he348 hF => ?_) (Or.inr ⟨_, rfl⟩)
  have hag : HA ad0 g0 ad g347 := ⟨by rw [he348.1]; exact hag.1, hag.2⟩
  refine ph_aload_n (n := 0) X hl dX8_init_434 rfl rfl ?_
  refine lv_sipush (v := 720) X.1 X.2.1 dX8_init_435 (by decide) ?_
  have hx349 : a0 < 200 + gN g347 := (ltm (ltm (ltm (ltm (ltm (ltm hx325 (Nat.le_of_succ_le he329)) (Nat.le_of_eq he332.1.symm)) (Nat.le_of_succ_le he336)) (Nat.le_of_eq he340.1.symm)) (Nat.le_of_succ_le he344)) (Nat.le_of_eq he348.1.symm))
  obtain ⟨hd350, hF⟩ := hF
  refine hg_newaI [pX a0] X hP hag hl (ltlp hx349 ltln) (ltsp hx349 ltsn) q516 (by decide) (by decide) (Nat.le_of_ble_eq_true rfl) hd350 dX8_init_438 rfl hF (fun H ad g351 ι352 X hP hag he353 hk354 hl hF => ?_)
  show WHv p l e ({ frames := 1, cells := BC, slots := BS, locals := 20 } : Room) s m args below meth c D dA ad0 g0 A Q BC BS H locs (36) (8371) (F0 m 440 ls [rv ad (200 + gN g347), rv ad a0])
  refine hg_putrF 0 68 X in_X8 tyX8 tyX8_ok nmX8 hP (by rw [hk354.2 _ hx349]; exact (by rw [he348.2.1]; exact hm346)) q1838 hnm dX8_init_440 (ltw he353) hF (fun H locs g355 hP he356 hF => ?_) (Or.inr ⟨_, rfl⟩)
  have hag : HA ad0 g0 ad g355 := ⟨by rw [he356.1]; exact hag.1, hag.2⟩
  refine ph_aload_n (n := 0) X hl dX8_init_443 rfl rfl ?_
  refine lv_bipush (v := 8) X.1 X.2.1 dX8_init_444 (by decide) ?_
  obtain ⟨hd357, hF⟩ := hF
  refine hg_newaI [pX a0] X hP hag hl (ltlp (ltm (ltm hx349 (Nat.le_of_succ_le he353)) (Nat.le_of_eq he356.1.symm)) ltln) (ltsp (ltm (ltm hx349 (Nat.le_of_succ_le he353)) (Nat.le_of_eq he356.1.symm)) ltsn) q516 (by decide) (by decide) (Nat.le_of_ble_eq_true rfl) hd357 dX8_init_446 rfl hF (fun H ad g358 ι359 X hP hag he360 hk361 hl hF => ?_)
  show WHv p l e ({ frames := 1, cells := BC, slots := BS, locals := 20 } : Room) s m args below meth c D dA ad0 g0 A Q BC BS H locs (37) (8379) (F0 m 448 ls [rv ad (200 + gN g355), rv ad a0])
  have hm362 : gK g358 a0 = 1 := (by rw [hk361.2 _ (ltm (ltm hx349 (Nat.le_of_succ_le he353)) (Nat.le_of_eq he356.1.symm))]; exact (by rw [he356.2.1]; exact (by rw [hk354.2 _ hx349]; exact (by rw [he348.2.1]; exact hm346))))
  refine hg_putrF 0 69 X in_X8 tyX8 tyX8_ok nmX8 hP hm362 q1839 hnm dX8_init_448 (ltw he360) hF (fun H locs g363 hP he364 hF => ?_) (Or.inr ⟨_, rfl⟩)
  have hag : HA ad0 g0 ad g363 := ⟨by rw [he364.1]; exact hag.1, hag.2⟩
  refine ph_aload_n (n := 0) X hl dX8_init_451 rfl rfl ?_
  refine lv_bipush (v := 8) X.1 X.2.1 dX8_init_452 (by decide) ?_
  obtain ⟨hd365, hF⟩ := hF
  refine hg_newaI [pX a0] X hP hag hl (ltlp (ltm (ltm (ltm (ltm hx349 (Nat.le_of_succ_le he353)) (Nat.le_of_eq he356.1.symm)) (Nat.le_of_succ_le he360)) (Nat.le_of_eq he364.1.symm)) ltln) (ltsp (ltm (ltm (ltm (ltm hx349 (Nat.le_of_succ_le he353)) (Nat.le_of_eq he356.1.symm)) (Nat.le_of_succ_le he360)) (Nat.le_of_eq he364.1.symm)) ltsn) q516 (by decide) (by decide) (Nat.le_of_ble_eq_true rfl) hd365 dX8_init_454 rfl hF (fun H ad g366 ι367 X hP hag he368 hk369 hl hF => ?_)
  show WHv p l e ({ frames := 1, cells := BC, slots := BS, locals := 20 } : Room) s m args below meth c D dA ad0 g0 A Q BC BS H locs (38) (8387) (F0 m 456 ls [rv ad (200 + gN g363), rv ad a0])
  have hm370 : gK g366 a0 = 1 := (by rw [hk369.2 _ (ltm (ltm (ltm (ltm hx349 (Nat.le_of_succ_le he353)) (Nat.le_of_eq he356.1.symm)) (Nat.le_of_succ_le he360)) (Nat.le_of_eq he364.1.symm))]; exact (by rw [he364.2.1]; exact hm362))
  refine hg_putrF 0 70 X in_X8 tyX8 tyX8_ok nmX8 hP hm370 q1840 hnm dX8_init_456 (ltw he368) hF (fun H locs g371 hP he372 hF => ?_) (Or.inr ⟨_, rfl⟩)
  have hag : HA ad0 g0 ad g371 := ⟨by rw [he372.1]; exact hag.1, hag.2⟩
  refine ph_aload_n (n := 0) X hl dX8_init_459 rfl rfl ?_
  refine lv_bipush (v := 8) X.1 X.2.1 dX8_init_460 (by decide) ?_
  have hx373 : a0 < 200 + gN g371 := (ltm (ltm (ltm (ltm (ltm (ltm hx349 (Nat.le_of_succ_le he353)) (Nat.le_of_eq he356.1.symm)) (Nat.le_of_succ_le he360)) (Nat.le_of_eq he364.1.symm)) (Nat.le_of_succ_le he368)) (Nat.le_of_eq he372.1.symm))
  obtain ⟨hd374, hF⟩ := hF
  refine hg_newaI [pX a0] X hP hag hl (ltlp hx373 ltln) (ltsp hx373 ltsn) q516 (by decide) (by decide) (Nat.le_of_ble_eq_true rfl) hd374 dX8_init_462 rfl hF (fun H ad g375 ι376 X hP hag he377 hk378 hl hF => ?_)
  show WHv p l e ({ frames := 1, cells := BC, slots := BS, locals := 20 } : Room) s m args below meth c D dA ad0 g0 A Q BC BS H locs (39) (8395) (F0 m 464 ls [rv ad (200 + gN g371), rv ad a0])
  refine hg_putrF 0 71 X in_X8 tyX8 tyX8_ok nmX8 hP (by rw [hk378.2 _ hx373]; exact (by rw [he372.2.1]; exact hm370)) q1841 hnm dX8_init_464 (ltw he377) hF (fun H locs g379 hP he380 hF => ?_) (Or.inr ⟨_, rfl⟩)
  have hag : HA ad0 g0 ad g379 := ⟨by rw [he380.1]; exact hag.1, hag.2⟩
  refine ph_aload_n (n := 0) X hl dX8_init_467 rfl rfl ?_
  refine lv_iconst (v := 3) X.1 X.2.1 dX8_init_468 (by decide) ?_
  obtain ⟨hd381, hF⟩ := hF
  have hl : LH ad ls 1 [] := lh_sub hl [] rfl
  refine hg_newaI [pX a0] X hP hag hl ltln (ltsp (ltm (ltm hx373 (Nat.le_of_succ_le he377)) (Nat.le_of_eq he380.1.symm)) ltsn) q516 (by decide) (by decide) (Nat.le_of_ble_eq_true rfl) hd381 dX8_init_469 rfl hF (fun H ad g382 ι383 X hP hag he384 hk385 hl hF => ?_)
  show WHv p l e ({ frames := 1, cells := BC, slots := BS, locals := 20 } : Room) s m args below meth c D dA ad0 g0 A Q BC BS H locs (40) (8398) (F0 m 471 ls [rv ad (200 + gN g379), rv ad a0])
  have hm386 : gK g382 a0 = 1 := (by rw [hk385.2 _ (ltm (ltm hx373 (Nat.le_of_succ_le he377)) (Nat.le_of_eq he380.1.symm))]; exact (by rw [he380.2.1]; exact (by rw [hk378.2 _ hx373]; exact (by rw [he372.2.1]; exact hm370))))
  refine hg_putrF 0 72 X in_X8 tyX8 tyX8_ok nmX8 hP hm386 q1842 hnm dX8_init_471 (ltw he384) hF (fun H locs g387 hP he388 hF => ?_) (Or.inr ⟨_, rfl⟩)
  have hag : HA ad0 g0 ad g387 := ⟨by rw [he388.1]; exact hag.1, hag.2⟩
  exact hg_vret X hP hag hF hd381.1 hd381.2 dX8_init_474
set_option maxHeartbeats 2000000 in
theorem met_X8_init (l : Launch) (D : va_G) (dA : Nat → ClassId) (ad : Nat → Nat) (BC BS : Nat) (g : GT) (ι : S) (sz : Nat) {a0 : Nat} {Q : GT → S → Prop} (hF : P_X8_init BC BS a0 g ι Q) : CHv l yX8_init cX8_init 1 ({ frames := 1, cells := BC, slots := BS, locals := 20 } : Room) D dA ad g ι sz [pX a0] Q BC BS := by
  refine ph_enter [pX a0] (Qc := fun A => HPv D dA ad g A Q) (by decide +kernel) (Nat.le_of_ble_eq_true rfl) ?_
  intro p e s m args below meth c A ls X hP hl hnm
  have hnm : meth.name = "<init>" := hnm
  exact we_X8_init hnm _ _ _ _ _ _ _ hF X hP HA.rf hl
end HGA
