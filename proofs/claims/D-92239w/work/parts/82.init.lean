/-! the constructor of TrailerYardsModel, by mkinit.py -/
abbrev sx1_0 : St := (sI (sI (sJ st0 4 1) 46 20000) 47 20000)
abbrev sx1_1 : St := sA sx1_0 6 0 (-9)
abbrev sx1_2 : St := sA sx1_1 6 1 (-9)
abbrev sx1_3 : St := sA sx1_2 6 2 (-9)
abbrev sx1_4 : St := sA sx1_3 6 3 (-9)
abbrev sx1_5 : St := sA sx1_4 6 4 (-9)
abbrev sx1_6 : St := sA sx1_5 6 5 (-9)
abbrev sx1_7 : St := sA sx1_6 9 0 (-9)
abbrev sx1_8 : St := sA sx1_7 9 1 (-9)
abbrev sx1_9 : St := sA sx1_8 9 2 (-9)
abbrev sx1_10 : St := sA sx1_9 9 3 (-9)
abbrev sx1_11 : St := sA sx1_10 31 0 (-9)
abbrev sx1_12 : St := sA sx1_11 55 0 (-9)
abbrev sx1_13 : St := sA sx1_12 31 1 (-9)
abbrev sx1_14 : St := sA sx1_13 55 1 (-9)
abbrev sx1_15 : St := sA sx1_14 31 2 (-9)
abbrev sx1_16 : St := sA sx1_15 55 2 (-9)
abbrev sx1_17 : St := sA sx1_16 31 3 (-9)
abbrev sx1_18 : St := sA sx1_17 55 3 (-9)
abbrev sx1_19 : St := sA sx1_18 31 4 (-9)
abbrev sx1_20 : St := sA sx1_19 55 4 (-9)
abbrev sx1_21 : St := sA sx1_20 31 5 (-9)
abbrev sx1_22 : St := sA sx1_21 55 5 (-9)
set_option maxHeartbeats 8000000 in
set_option maxRecDepth 100000 in
theorem mtX1_init (l : Launch) (X : Xw) : MetC 1 l X yX1_init cX1_init 2 1 20 51 2394 sx1_22 := MetC.ofAt (by decide) rfl (by decide) in_X1 rfl tyX1_ok nmX1 (fun G Γ Κ hXO hXK hR hret => by
  refine A_aload_n (G := gX G 0 0 (PicK 1 (xUp X (xad X)) [])) Γ dX1_init_0 0 rfl ?_
  refine A_obj (G := gX G 0 0 (PicK 1 (xUp X (xad X)) [])) Γ q1067 (by show 1 ≤ (gR G).frames; rw [hR]; decide) (by show 20 ≤ (gR G).locals; rw [hR]; decide) (Nat.le_of_ble_eq_true rfl) dX1_init_1 ?_
  generalize xad X = ad
  refine A_aload_n (G := gX G 0 0 (PicK 1 (xUp X ad) [])) Γ dX1_init_4 0 rfl ?_
  refine A_bipush (G := gX G 0 0 (PicK 1 (xUp X ad) [])) (v := 6) Γ dX1_init_5 (by decide) ?_
  refine K_new (c := 0) (s := 0) (t := 0) (at_ := .int) (N := 6) (k := 1) Γ Κ (fun _ => rfl) (by decide) (by decide) q1069 ⟨rfl, rfl⟩ rfl rfl q291 rfl rfl (fun h => h) (by decide) (by decide) (by decide) (by rw [hR]; decide) (by rw [hR]; decide) dX1_init_7 dX1_init_9 (fun ad => ?_)
  refine A_aload_n (G := gX G 1 6 (PicK 1 (xUp X ad) [1])) Γ dX1_init_12 0 rfl ?_
  refine A_lconst (G := gX G 1 6 (PicK 1 (xUp X ad) [1])) (v := 1) Γ dX1_init_13 (by decide) ?_
  refine K_put (σ1 := (sJ st0 4 1)) Γ Κ (k := 4) (by decide) q1072 rfl rfl rfl rfl rfl rfl (fun Y j hj => fv_sJ hj) (fun _ => rfl) (fun _ _ => rfl) dX1_init_14 ?_
  refine A_aload_n (G := gX G 1 6 (PicK 1 (xUp X ad) [1])) Γ dX1_init_17 0 rfl ?_
  refine A_bipush (G := gX G 1 6 (PicK 1 (xUp X ad) [1])) (v := 6) Γ dX1_init_18 (by decide) ?_
  refine K_new (c := 1) (s := 6) (t := 0) (at_ := .int) (N := 6) (k := 6) Γ Κ (fun _ => rfl) (by decide) (by decide) q1074 ⟨rfl, rfl⟩ rfl rfl q291 rfl rfl (fun h => h) (by decide) (by decide) (by decide) (by rw [hR]; decide) (by rw [hR]; decide) dX1_init_20 dX1_init_22 (fun ad => ?_)
  refine A_aload_n (G := gX G 2 12 (PicK 1 (xUp X ad) [6, 1])) Γ dX1_init_25 0 rfl ?_
  refine A_sipush (G := gX G 2 12 (PicK 1 (xUp X ad) [6, 1])) (v := 240) Γ dX1_init_26 (by decide) ?_
  refine K_new (c := 2) (s := 12) (t := 0) (at_ := .int) (N := 240) (k := 7) Γ Κ (fun _ => rfl) (by decide) (by decide) q1075 ⟨rfl, rfl⟩ rfl rfl q291 rfl rfl (fun h => h) (by decide) (by decide) (by decide) (by rw [hR]; decide) (by rw [hR]; decide) dX1_init_29 dX1_init_31 (fun ad => ?_)
  refine A_aload_n (G := gX G 3 252 (PicK 1 (xUp X ad) [7, 6, 1])) Γ dX1_init_34 0 rfl ?_
  refine A_bipush (G := gX G 3 252 (PicK 1 (xUp X ad) [7, 6, 1])) (v := 40) Γ dX1_init_35 (by decide) ?_
  refine K_new (c := 3) (s := 252) (t := 0) (at_ := .int) (N := 40) (k := 8) Γ Κ (fun _ => rfl) (by decide) (by decide) q1076 ⟨rfl, rfl⟩ rfl rfl q291 rfl rfl (fun h => h) (by decide) (by decide) (by decide) (by rw [hR]; decide) (by rw [hR]; decide) dX1_init_37 dX1_init_39 (fun ad => ?_)
  refine A_aload_n (G := gX G 4 292 (PicK 1 (xUp X ad) [8, 7, 6, 1])) Γ dX1_init_42 0 rfl ?_
  refine A_iconst (G := gX G 4 292 (PicK 1 (xUp X ad) [8, 7, 6, 1])) (v := 4) Γ dX1_init_43 (by decide) ?_
  refine K_new (c := 4) (s := 292) (t := 0) (at_ := .int) (N := 4) (k := 9) Γ Κ (fun _ => rfl) (by decide) (by decide) q1077 ⟨rfl, rfl⟩ rfl rfl q291 rfl rfl (fun h => h) (by decide) (by decide) (by decide) (by rw [hR]; decide) (by rw [hR]; decide) dX1_init_44 dX1_init_46 (fun ad => ?_)
  refine A_aload_n (G := gX G 5 296 (PicK 1 (xUp X ad) [9, 8, 7, 6, 1])) Γ dX1_init_49 0 rfl ?_
  refine A_sipush (G := gX G 5 296 (PicK 1 (xUp X ad) [9, 8, 7, 6, 1])) (v := 160) Γ dX1_init_50 (by decide) ?_
  refine K_new (c := 5) (s := 296) (t := 0) (at_ := .int) (N := 160) (k := 10) Γ Κ (fun _ => rfl) (by decide) (by decide) q1078 ⟨rfl, rfl⟩ rfl rfl q291 rfl rfl (fun h => h) (by decide) (by decide) (by decide) (by rw [hR]; decide) (by rw [hR]; decide) dX1_init_53 dX1_init_55 (fun ad => ?_)
  refine A_aload_n (G := gX G 6 456 (PicK 1 (xUp X ad) [10, 9, 8, 7, 6, 1])) Γ dX1_init_58 0 rfl ?_
  refine A_bipush (G := gX G 6 456 (PicK 1 (xUp X ad) [10, 9, 8, 7, 6, 1])) (v := 64) Γ dX1_init_59 (by decide) ?_
  refine K_new (c := 6) (s := 456) (t := 0) (at_ := .int) (N := 64) (k := 11) Γ Κ (fun _ => rfl) (by decide) (by decide) q1079 ⟨rfl, rfl⟩ rfl rfl q291 rfl rfl (fun h => h) (by decide) (by decide) (by decide) (by rw [hR]; decide) (by rw [hR]; decide) dX1_init_61 dX1_init_63 (fun ad => ?_)
  refine A_aload_n (G := gX G 7 520 (PicK 1 (xUp X ad) [11, 10, 9, 8, 7, 6, 1])) Γ dX1_init_66 0 rfl ?_
  refine A_bipush (G := gX G 7 520 (PicK 1 (xUp X ad) [11, 10, 9, 8, 7, 6, 1])) (v := 64) Γ dX1_init_67 (by decide) ?_
  refine K_new (c := 7) (s := 520) (t := 0) (at_ := .int) (N := 64) (k := 12) Γ Κ (fun _ => rfl) (by decide) (by decide) q1080 ⟨rfl, rfl⟩ rfl rfl q291 rfl rfl (fun h => h) (by decide) (by decide) (by decide) (by rw [hR]; decide) (by rw [hR]; decide) dX1_init_69 dX1_init_71 (fun ad => ?_)
  refine A_aload_n (G := gX G 8 584 (PicK 1 (xUp X ad) [12, 11, 10, 9, 8, 7, 6, 1])) Γ dX1_init_74 0 rfl ?_
  refine A_bipush (G := gX G 8 584 (PicK 1 (xUp X ad) [12, 11, 10, 9, 8, 7, 6, 1])) (v := 64) Γ dX1_init_75 (by decide) ?_
  refine K_new (c := 8) (s := 584) (t := 0) (at_ := .int) (N := 64) (k := 13) Γ Κ (fun _ => rfl) (by decide) (by decide) q1081 ⟨rfl, rfl⟩ rfl rfl q291 rfl rfl (fun h => h) (by decide) (by decide) (by decide) (by rw [hR]; decide) (by rw [hR]; decide) dX1_init_77 dX1_init_79 (fun ad => ?_)
  refine A_aload_n (G := gX G 9 648 (PicK 1 (xUp X ad) [13, 12, 11, 10, 9, 8, 7, 6, 1])) Γ dX1_init_82 0 rfl ?_
  refine A_bipush (G := gX G 9 648 (PicK 1 (xUp X ad) [13, 12, 11, 10, 9, 8, 7, 6, 1])) (v := 64) Γ dX1_init_83 (by decide) ?_
  refine K_new (c := 9) (s := 648) (t := 0) (at_ := .int) (N := 64) (k := 14) Γ Κ (fun _ => rfl) (by decide) (by decide) q1082 ⟨rfl, rfl⟩ rfl rfl q291 rfl rfl (fun h => h) (by decide) (by decide) (by decide) (by rw [hR]; decide) (by rw [hR]; decide) dX1_init_85 dX1_init_87 (fun ad => ?_)
  refine A_aload_n (G := gX G 10 712 (PicK 1 (xUp X ad) [14, 13, 12, 11, 10, 9, 8, 7, 6, 1])) Γ dX1_init_90 0 rfl ?_
  refine A_bipush (G := gX G 10 712 (PicK 1 (xUp X ad) [14, 13, 12, 11, 10, 9, 8, 7, 6, 1])) (v := 8) Γ dX1_init_91 (by decide) ?_
  refine K_new (c := 10) (s := 712) (t := 0) (at_ := .int) (N := 8) (k := 15) Γ Κ (fun _ => rfl) (by decide) (by decide) q1083 ⟨rfl, rfl⟩ rfl rfl q291 rfl rfl (fun h => h) (by decide) (by decide) (by decide) (by rw [hR]; decide) (by rw [hR]; decide) dX1_init_93 dX1_init_95 (fun ad => ?_)
  refine A_aload_n (G := gX G 11 720 (PicK 1 (xUp X ad) [15, 14, 13, 12, 11, 10, 9, 8, 7, 6, 1])) Γ dX1_init_98 0 rfl ?_
  refine A_bipush (G := gX G 11 720 (PicK 1 (xUp X ad) [15, 14, 13, 12, 11, 10, 9, 8, 7, 6, 1])) (v := 12) Γ dX1_init_99 (by decide) ?_
  refine K_new (c := 11) (s := 720) (t := 0) (at_ := .int) (N := 12) (k := 17) Γ Κ (fun _ => rfl) (by decide) (by decide) q1085 ⟨rfl, rfl⟩ rfl rfl q291 rfl rfl (fun h => h) (by decide) (by decide) (by decide) (by rw [hR]; decide) (by rw [hR]; decide) dX1_init_101 dX1_init_103 (fun ad => ?_)
  refine A_aload_n (G := gX G 12 732 (PicK 1 (xUp X ad) [17, 15, 14, 13, 12, 11, 10, 9, 8, 7, 6, 1])) Γ dX1_init_106 0 rfl ?_
  refine A_bipush (G := gX G 12 732 (PicK 1 (xUp X ad) [17, 15, 14, 13, 12, 11, 10, 9, 8, 7, 6, 1])) (v := 12) Γ dX1_init_107 (by decide) ?_
  refine K_new (c := 12) (s := 732) (t := 0) (at_ := .int) (N := 12) (k := 18) Γ Κ (fun _ => rfl) (by decide) (by decide) q1086 ⟨rfl, rfl⟩ rfl rfl q291 rfl rfl (fun h => h) (by decide) (by decide) (by decide) (by rw [hR]; decide) (by rw [hR]; decide) dX1_init_109 dX1_init_111 (fun ad => ?_)
  refine A_aload_n (G := gX G 13 744 (PicK 1 (xUp X ad) [18, 17, 15, 14, 13, 12, 11, 10, 9, 8, 7, 6, 1])) Γ dX1_init_114 0 rfl ?_
  refine A_bipush (G := gX G 13 744 (PicK 1 (xUp X ad) [18, 17, 15, 14, 13, 12, 11, 10, 9, 8, 7, 6, 1])) (v := 12) Γ dX1_init_115 (by decide) ?_
  refine K_new (c := 13) (s := 744) (t := 0) (at_ := .int) (N := 12) (k := 19) Γ Κ (fun _ => rfl) (by decide) (by decide) q1087 ⟨rfl, rfl⟩ rfl rfl q291 rfl rfl (fun h => h) (by decide) (by decide) (by decide) (by rw [hR]; decide) (by rw [hR]; decide) dX1_init_117 dX1_init_119 (fun ad => ?_)
  refine A_aload_n (G := gX G 14 756 (PicK 1 (xUp X ad) [19, 18, 17, 15, 14, 13, 12, 11, 10, 9, 8, 7, 6, 1])) Γ dX1_init_122 0 rfl ?_
  refine A_bipush (G := gX G 14 756 (PicK 1 (xUp X ad) [19, 18, 17, 15, 14, 13, 12, 11, 10, 9, 8, 7, 6, 1])) (v := 12) Γ dX1_init_123 (by decide) ?_
  refine K_new (c := 14) (s := 756) (t := 1) (at_ := .boolean) (N := 12) (k := 20) Γ Κ (fun _ => rfl) (by decide) (by decide) q1088 ⟨rfl, rfl⟩ rfl rfl q292 rfl rfl (fun h => h) (by decide) (by decide) (by decide) (by rw [hR]; decide) (by rw [hR]; decide) dX1_init_125 dX1_init_127 (fun ad => ?_)
  refine A_aload_n (G := gX G 15 768 (PicK 1 (xUp X ad) [20, 19, 18, 17, 15, 14, 13, 12, 11, 10, 9, 8, 7, 6, 1])) Γ dX1_init_130 0 rfl ?_
  refine A_bipush (G := gX G 15 768 (PicK 1 (xUp X ad) [20, 19, 18, 17, 15, 14, 13, 12, 11, 10, 9, 8, 7, 6, 1])) (v := 12) Γ dX1_init_131 (by decide) ?_
  refine K_new (c := 15) (s := 768) (t := 0) (at_ := .int) (N := 12) (k := 21) Γ Κ (fun _ => rfl) (by decide) (by decide) q1089 ⟨rfl, rfl⟩ rfl rfl q291 rfl rfl (fun h => h) (by decide) (by decide) (by decide) (by rw [hR]; decide) (by rw [hR]; decide) dX1_init_133 dX1_init_135 (fun ad => ?_)
  refine A_aload_n (G := gX G 16 780 (PicK 1 (xUp X ad) [21, 20, 19, 18, 17, 15, 14, 13, 12, 11, 10, 9, 8, 7, 6, 1])) Γ dX1_init_138 0 rfl ?_
  refine A_bipush (G := gX G 16 780 (PicK 1 (xUp X ad) [21, 20, 19, 18, 17, 15, 14, 13, 12, 11, 10, 9, 8, 7, 6, 1])) (v := 12) Γ dX1_init_139 (by decide) ?_
  refine K_new (c := 16) (s := 780) (t := 0) (at_ := .int) (N := 12) (k := 22) Γ Κ (fun _ => rfl) (by decide) (by decide) q1090 ⟨rfl, rfl⟩ rfl rfl q291 rfl rfl (fun h => h) (by decide) (by decide) (by decide) (by rw [hR]; decide) (by rw [hR]; decide) dX1_init_141 dX1_init_143 (fun ad => ?_)
  refine A_aload_n (G := gX G 17 792 (PicK 1 (xUp X ad) [22, 21, 20, 19, 18, 17, 15, 14, 13, 12, 11, 10, 9, 8, 7, 6, 1])) Γ dX1_init_146 0 rfl ?_
  refine A_bipush (G := gX G 17 792 (PicK 1 (xUp X ad) [22, 21, 20, 19, 18, 17, 15, 14, 13, 12, 11, 10, 9, 8, 7, 6, 1])) (v := 12) Γ dX1_init_147 (by decide) ?_
  refine K_new (c := 17) (s := 792) (t := 0) (at_ := .int) (N := 12) (k := 23) Γ Κ (fun _ => rfl) (by decide) (by decide) q1091 ⟨rfl, rfl⟩ rfl rfl q291 rfl rfl (fun h => h) (by decide) (by decide) (by decide) (by rw [hR]; decide) (by rw [hR]; decide) dX1_init_149 dX1_init_151 (fun ad => ?_)
  refine A_aload_n (G := gX G 18 804 (PicK 1 (xUp X ad) [23, 22, 21, 20, 19, 18, 17, 15, 14, 13, 12, 11, 10, 9, 8, 7, 6, 1])) Γ dX1_init_154 0 rfl ?_
  refine A_bipush (G := gX G 18 804 (PicK 1 (xUp X ad) [23, 22, 21, 20, 19, 18, 17, 15, 14, 13, 12, 11, 10, 9, 8, 7, 6, 1])) (v := 72) Γ dX1_init_155 (by decide) ?_
  refine K_new (c := 18) (s := 804) (t := 0) (at_ := .int) (N := 72) (k := 24) Γ Κ (fun _ => rfl) (by decide) (by decide) q1092 ⟨rfl, rfl⟩ rfl rfl q291 rfl rfl (fun h => h) (by decide) (by decide) (by decide) (by rw [hR]; decide) (by rw [hR]; decide) dX1_init_157 dX1_init_159 (fun ad => ?_)
  refine A_aload_n (G := gX G 19 876 (PicK 1 (xUp X ad) [24, 23, 22, 21, 20, 19, 18, 17, 15, 14, 13, 12, 11, 10, 9, 8, 7, 6, 1])) Γ dX1_init_162 0 rfl ?_
  refine A_bipush (G := gX G 19 876 (PicK 1 (xUp X ad) [24, 23, 22, 21, 20, 19, 18, 17, 15, 14, 13, 12, 11, 10, 9, 8, 7, 6, 1])) (v := 72) Γ dX1_init_163 (by decide) ?_
  refine K_new (c := 19) (s := 876) (t := 0) (at_ := .int) (N := 72) (k := 25) Γ Κ (fun _ => rfl) (by decide) (by decide) q1093 ⟨rfl, rfl⟩ rfl rfl q291 rfl rfl (fun h => h) (by decide) (by decide) (by decide) (by rw [hR]; decide) (by rw [hR]; decide) dX1_init_165 dX1_init_167 (fun ad => ?_)
  refine A_aload_n (G := gX G 20 948 (PicK 1 (xUp X ad) [25, 24, 23, 22, 21, 20, 19, 18, 17, 15, 14, 13, 12, 11, 10, 9, 8, 7, 6, 1])) Γ dX1_init_170 0 rfl ?_
  refine A_bipush (G := gX G 20 948 (PicK 1 (xUp X ad) [25, 24, 23, 22, 21, 20, 19, 18, 17, 15, 14, 13, 12, 11, 10, 9, 8, 7, 6, 1])) (v := 12) Γ dX1_init_171 (by decide) ?_
  refine K_new (c := 20) (s := 948) (t := 1) (at_ := .boolean) (N := 12) (k := 26) Γ Κ (fun _ => rfl) (by decide) (by decide) q1094 ⟨rfl, rfl⟩ rfl rfl q292 rfl rfl (fun h => h) (by decide) (by decide) (by decide) (by rw [hR]; decide) (by rw [hR]; decide) dX1_init_173 dX1_init_175 (fun ad => ?_)
  refine A_aload_n (G := gX G 21 960 (PicK 1 (xUp X ad) [26, 25, 24, 23, 22, 21, 20, 19, 18, 17, 15, 14, 13, 12, 11, 10, 9, 8, 7, 6, 1])) Γ dX1_init_178 0 rfl ?_
  refine A_bipush (G := gX G 21 960 (PicK 1 (xUp X ad) [26, 25, 24, 23, 22, 21, 20, 19, 18, 17, 15, 14, 13, 12, 11, 10, 9, 8, 7, 6, 1])) (v := 12) Γ dX1_init_179 (by decide) ?_
  refine K_new (c := 21) (s := 960) (t := 0) (at_ := .int) (N := 12) (k := 27) Γ Κ (fun _ => rfl) (by decide) (by decide) q1095 ⟨rfl, rfl⟩ rfl rfl q291 rfl rfl (fun h => h) (by decide) (by decide) (by decide) (by rw [hR]; decide) (by rw [hR]; decide) dX1_init_181 dX1_init_183 (fun ad => ?_)
  refine A_aload_n (G := gX G 22 972 (PicK 1 (xUp X ad) [27, 26, 25, 24, 23, 22, 21, 20, 19, 18, 17, 15, 14, 13, 12, 11, 10, 9, 8, 7, 6, 1])) Γ dX1_init_186 0 rfl ?_
  refine A_bipush (G := gX G 22 972 (PicK 1 (xUp X ad) [27, 26, 25, 24, 23, 22, 21, 20, 19, 18, 17, 15, 14, 13, 12, 11, 10, 9, 8, 7, 6, 1])) (v := 12) Γ dX1_init_187 (by decide) ?_
  refine K_new (c := 22) (s := 972) (t := 0) (at_ := .int) (N := 12) (k := 28) Γ Κ (fun _ => rfl) (by decide) (by decide) q1096 ⟨rfl, rfl⟩ rfl rfl q291 rfl rfl (fun h => h) (by decide) (by decide) (by decide) (by rw [hR]; decide) (by rw [hR]; decide) dX1_init_189 dX1_init_191 (fun ad => ?_)
  refine A_aload_n (G := gX G 23 984 (PicK 1 (xUp X ad) [28, 27, 26, 25, 24, 23, 22, 21, 20, 19, 18, 17, 15, 14, 13, 12, 11, 10, 9, 8, 7, 6, 1])) Γ dX1_init_194 0 rfl ?_
  refine A_bipush (G := gX G 23 984 (PicK 1 (xUp X ad) [28, 27, 26, 25, 24, 23, 22, 21, 20, 19, 18, 17, 15, 14, 13, 12, 11, 10, 9, 8, 7, 6, 1])) (v := 6) Γ dX1_init_195 (by decide) ?_
  refine K_new (c := 23) (s := 984) (t := 0) (at_ := .int) (N := 6) (k := 29) Γ Κ (fun _ => rfl) (by decide) (by decide) q1097 ⟨rfl, rfl⟩ rfl rfl q291 rfl rfl (fun h => h) (by decide) (by decide) (by decide) (by rw [hR]; decide) (by rw [hR]; decide) dX1_init_197 dX1_init_199 (fun ad => ?_)
  refine A_aload_n (G := gX G 24 990 (PicK 1 (xUp X ad) [29, 28, 27, 26, 25, 24, 23, 22, 21, 20, 19, 18, 17, 15, 14, 13, 12, 11, 10, 9, 8, 7, 6, 1])) Γ dX1_init_202 0 rfl ?_
  refine A_bipush (G := gX G 24 990 (PicK 1 (xUp X ad) [29, 28, 27, 26, 25, 24, 23, 22, 21, 20, 19, 18, 17, 15, 14, 13, 12, 11, 10, 9, 8, 7, 6, 1])) (v := 6) Γ dX1_init_203 (by decide) ?_
  refine K_new (c := 24) (s := 990) (t := 0) (at_ := .int) (N := 6) (k := 30) Γ Κ (fun _ => rfl) (by decide) (by decide) q1098 ⟨rfl, rfl⟩ rfl rfl q291 rfl rfl (fun h => h) (by decide) (by decide) (by decide) (by rw [hR]; decide) (by rw [hR]; decide) dX1_init_205 dX1_init_207 (fun ad => ?_)
  refine A_aload_n (G := gX G 25 996 (PicK 1 (xUp X ad) [30, 29, 28, 27, 26, 25, 24, 23, 22, 21, 20, 19, 18, 17, 15, 14, 13, 12, 11, 10, 9, 8, 7, 6, 1])) Γ dX1_init_210 0 rfl ?_
  refine A_bipush (G := gX G 25 996 (PicK 1 (xUp X ad) [30, 29, 28, 27, 26, 25, 24, 23, 22, 21, 20, 19, 18, 17, 15, 14, 13, 12, 11, 10, 9, 8, 7, 6, 1])) (v := 6) Γ dX1_init_211 (by decide) ?_
  refine K_new (c := 25) (s := 996) (t := 0) (at_ := .int) (N := 6) (k := 31) Γ Κ (fun _ => rfl) (by decide) (by decide) q1099 ⟨rfl, rfl⟩ rfl rfl q291 rfl rfl (fun h => h) (by decide) (by decide) (by decide) (by rw [hR]; decide) (by rw [hR]; decide) dX1_init_213 dX1_init_215 (fun ad => ?_)
  refine A_aload_n (G := gX G 26 1002 (PicK 1 (xUp X ad) [31, 30, 29, 28, 27, 26, 25, 24, 23, 22, 21, 20, 19, 18, 17, 15, 14, 13, 12, 11, 10, 9, 8, 7, 6, 1])) Γ dX1_init_218 0 rfl ?_
  refine A_bipush (G := gX G 26 1002 (PicK 1 (xUp X ad) [31, 30, 29, 28, 27, 26, 25, 24, 23, 22, 21, 20, 19, 18, 17, 15, 14, 13, 12, 11, 10, 9, 8, 7, 6, 1])) (v := 6) Γ dX1_init_219 (by decide) ?_
  refine K_new (c := 26) (s := 1002) (t := 0) (at_ := .int) (N := 6) (k := 32) Γ Κ (fun _ => rfl) (by decide) (by decide) q1100 ⟨rfl, rfl⟩ rfl rfl q291 rfl rfl (fun h => h) (by decide) (by decide) (by decide) (by rw [hR]; decide) (by rw [hR]; decide) dX1_init_221 dX1_init_223 (fun ad => ?_)
  refine A_aload_n (G := gX G 27 1008 (PicK 1 (xUp X ad) [32, 31, 30, 29, 28, 27, 26, 25, 24, 23, 22, 21, 20, 19, 18, 17, 15, 14, 13, 12, 11, 10, 9, 8, 7, 6, 1])) Γ dX1_init_226 0 rfl ?_
  refine A_bipush (G := gX G 27 1008 (PicK 1 (xUp X ad) [32, 31, 30, 29, 28, 27, 26, 25, 24, 23, 22, 21, 20, 19, 18, 17, 15, 14, 13, 12, 11, 10, 9, 8, 7, 6, 1])) (v := 6) Γ dX1_init_227 (by decide) ?_
  refine K_new (c := 27) (s := 1008) (t := 0) (at_ := .int) (N := 6) (k := 33) Γ Κ (fun _ => rfl) (by decide) (by decide) q1101 ⟨rfl, rfl⟩ rfl rfl q291 rfl rfl (fun h => h) (by decide) (by decide) (by decide) (by rw [hR]; decide) (by rw [hR]; decide) dX1_init_229 dX1_init_231 (fun ad => ?_)
  refine A_aload_n (G := gX G 28 1014 (PicK 1 (xUp X ad) [33, 32, 31, 30, 29, 28, 27, 26, 25, 24, 23, 22, 21, 20, 19, 18, 17, 15, 14, 13, 12, 11, 10, 9, 8, 7, 6, 1])) Γ dX1_init_234 0 rfl ?_
  refine A_bipush (G := gX G 28 1014 (PicK 1 (xUp X ad) [33, 32, 31, 30, 29, 28, 27, 26, 25, 24, 23, 22, 21, 20, 19, 18, 17, 15, 14, 13, 12, 11, 10, 9, 8, 7, 6, 1])) (v := 60) Γ dX1_init_235 (by decide) ?_
  refine K_new (c := 28) (s := 1014) (t := 0) (at_ := .int) (N := 60) (k := 35) Γ Κ (fun _ => rfl) (by decide) (by decide) q1103 ⟨rfl, rfl⟩ rfl rfl q291 rfl rfl (fun h => h) (by decide) (by decide) (by decide) (by rw [hR]; decide) (by rw [hR]; decide) dX1_init_237 dX1_init_239 (fun ad => ?_)
  refine A_aload_n (G := gX G 29 1074 (PicK 1 (xUp X ad) [35, 33, 32, 31, 30, 29, 28, 27, 26, 25, 24, 23, 22, 21, 20, 19, 18, 17, 15, 14, 13, 12, 11, 10, 9, 8, 7, 6, 1])) Γ dX1_init_242 0 rfl ?_
  refine A_bipush (G := gX G 29 1074 (PicK 1 (xUp X ad) [35, 33, 32, 31, 30, 29, 28, 27, 26, 25, 24, 23, 22, 21, 20, 19, 18, 17, 15, 14, 13, 12, 11, 10, 9, 8, 7, 6, 1])) (v := 60) Γ dX1_init_243 (by decide) ?_
  refine K_new (c := 29) (s := 1074) (t := 0) (at_ := .int) (N := 60) (k := 36) Γ Κ (fun _ => rfl) (by decide) (by decide) q1104 ⟨rfl, rfl⟩ rfl rfl q291 rfl rfl (fun h => h) (by decide) (by decide) (by decide) (by rw [hR]; decide) (by rw [hR]; decide) dX1_init_245 dX1_init_247 (fun ad => ?_)
  refine A_aload_n (G := gX G 30 1134 (PicK 1 (xUp X ad) [36, 35, 33, 32, 31, 30, 29, 28, 27, 26, 25, 24, 23, 22, 21, 20, 19, 18, 17, 15, 14, 13, 12, 11, 10, 9, 8, 7, 6, 1])) Γ dX1_init_250 0 rfl ?_
  refine A_bipush (G := gX G 30 1134 (PicK 1 (xUp X ad) [36, 35, 33, 32, 31, 30, 29, 28, 27, 26, 25, 24, 23, 22, 21, 20, 19, 18, 17, 15, 14, 13, 12, 11, 10, 9, 8, 7, 6, 1])) (v := 60) Γ dX1_init_251 (by decide) ?_
  refine K_new (c := 30) (s := 1134) (t := 0) (at_ := .int) (N := 60) (k := 37) Γ Κ (fun _ => rfl) (by decide) (by decide) q1105 ⟨rfl, rfl⟩ rfl rfl q291 rfl rfl (fun h => h) (by decide) (by decide) (by decide) (by rw [hR]; decide) (by rw [hR]; decide) dX1_init_253 dX1_init_255 (fun ad => ?_)
  refine A_aload_n (G := gX G 31 1194 (PicK 1 (xUp X ad) [37, 36, 35, 33, 32, 31, 30, 29, 28, 27, 26, 25, 24, 23, 22, 21, 20, 19, 18, 17, 15, 14, 13, 12, 11, 10, 9, 8, 7, 6, 1])) Γ dX1_init_258 0 rfl ?_
  refine A_bipush (G := gX G 31 1194 (PicK 1 (xUp X ad) [37, 36, 35, 33, 32, 31, 30, 29, 28, 27, 26, 25, 24, 23, 22, 21, 20, 19, 18, 17, 15, 14, 13, 12, 11, 10, 9, 8, 7, 6, 1])) (v := 60) Γ dX1_init_259 (by decide) ?_
  refine K_new (c := 31) (s := 1194) (t := 0) (at_ := .int) (N := 60) (k := 38) Γ Κ (fun _ => rfl) (by decide) (by decide) q1106 ⟨rfl, rfl⟩ rfl rfl q291 rfl rfl (fun h => h) (by decide) (by decide) (by decide) (by rw [hR]; decide) (by rw [hR]; decide) dX1_init_261 dX1_init_263 (fun ad => ?_)
  refine A_aload_n (G := gX G 32 1254 (PicK 1 (xUp X ad) [38, 37, 36, 35, 33, 32, 31, 30, 29, 28, 27, 26, 25, 24, 23, 22, 21, 20, 19, 18, 17, 15, 14, 13, 12, 11, 10, 9, 8, 7, 6, 1])) Γ dX1_init_266 0 rfl ?_
  refine A_bipush (G := gX G 32 1254 (PicK 1 (xUp X ad) [38, 37, 36, 35, 33, 32, 31, 30, 29, 28, 27, 26, 25, 24, 23, 22, 21, 20, 19, 18, 17, 15, 14, 13, 12, 11, 10, 9, 8, 7, 6, 1])) (v := 60) Γ dX1_init_267 (by decide) ?_
  refine K_new (c := 32) (s := 1254) (t := 0) (at_ := .int) (N := 60) (k := 39) Γ Κ (fun _ => rfl) (by decide) (by decide) q1107 ⟨rfl, rfl⟩ rfl rfl q291 rfl rfl (fun h => h) (by decide) (by decide) (by decide) (by rw [hR]; decide) (by rw [hR]; decide) dX1_init_269 dX1_init_271 (fun ad => ?_)
  refine A_aload_n (G := gX G 33 1314 (PicK 1 (xUp X ad) [39, 38, 37, 36, 35, 33, 32, 31, 30, 29, 28, 27, 26, 25, 24, 23, 22, 21, 20, 19, 18, 17, 15, 14, 13, 12, 11, 10, 9, 8, 7, 6, 1])) Γ dX1_init_274 0 rfl ?_
  refine A_bipush (G := gX G 33 1314 (PicK 1 (xUp X ad) [39, 38, 37, 36, 35, 33, 32, 31, 30, 29, 28, 27, 26, 25, 24, 23, 22, 21, 20, 19, 18, 17, 15, 14, 13, 12, 11, 10, 9, 8, 7, 6, 1])) (v := 20) Γ dX1_init_275 (by decide) ?_
  refine K_new (c := 33) (s := 1314) (t := 0) (at_ := .int) (N := 20) (k := 41) Γ Κ (fun _ => rfl) (by decide) (by decide) q1109 ⟨rfl, rfl⟩ rfl rfl q291 rfl rfl (fun h => h) (by decide) (by decide) (by decide) (by rw [hR]; decide) (by rw [hR]; decide) dX1_init_277 dX1_init_279 (fun ad => ?_)
  refine A_aload_n (G := gX G 34 1334 (PicK 1 (xUp X ad) [41, 39, 38, 37, 36, 35, 33, 32, 31, 30, 29, 28, 27, 26, 25, 24, 23, 22, 21, 20, 19, 18, 17, 15, 14, 13, 12, 11, 10, 9, 8, 7, 6, 1])) Γ dX1_init_282 0 rfl ?_
  refine A_bipush (G := gX G 34 1334 (PicK 1 (xUp X ad) [41, 39, 38, 37, 36, 35, 33, 32, 31, 30, 29, 28, 27, 26, 25, 24, 23, 22, 21, 20, 19, 18, 17, 15, 14, 13, 12, 11, 10, 9, 8, 7, 6, 1])) (v := 20) Γ dX1_init_283 (by decide) ?_
  refine K_new (c := 34) (s := 1334) (t := 0) (at_ := .int) (N := 20) (k := 42) Γ Κ (fun _ => rfl) (by decide) (by decide) q1110 ⟨rfl, rfl⟩ rfl rfl q291 rfl rfl (fun h => h) (by decide) (by decide) (by decide) (by rw [hR]; decide) (by rw [hR]; decide) dX1_init_285 dX1_init_287 (fun ad => ?_)
  refine A_aload_n (G := gX G 35 1354 (PicK 1 (xUp X ad) [42, 41, 39, 38, 37, 36, 35, 33, 32, 31, 30, 29, 28, 27, 26, 25, 24, 23, 22, 21, 20, 19, 18, 17, 15, 14, 13, 12, 11, 10, 9, 8, 7, 6, 1])) Γ dX1_init_290 0 rfl ?_
  refine A_sipush (G := gX G 35 1354 (PicK 1 (xUp X ad) [42, 41, 39, 38, 37, 36, 35, 33, 32, 31, 30, 29, 28, 27, 26, 25, 24, 23, 22, 21, 20, 19, 18, 17, 15, 14, 13, 12, 11, 10, 9, 8, 7, 6, 1])) (v := 360) Γ dX1_init_291 (by decide) ?_
  refine K_new (c := 35) (s := 1354) (t := 0) (at_ := .int) (N := 360) (k := 43) Γ Κ (fun _ => rfl) (by decide) (by decide) q1111 ⟨rfl, rfl⟩ rfl rfl q291 rfl rfl (fun h => h) (by decide) (by decide) (by decide) (by rw [hR]; decide) (by rw [hR]; decide) dX1_init_294 dX1_init_296 (fun ad => ?_)
  refine A_aload_n (G := gX G 36 1714 (PicK 1 (xUp X ad) [43, 42, 41, 39, 38, 37, 36, 35, 33, 32, 31, 30, 29, 28, 27, 26, 25, 24, 23, 22, 21, 20, 19, 18, 17, 15, 14, 13, 12, 11, 10, 9, 8, 7, 6, 1])) Γ dX1_init_299 0 rfl ?_
  refine A_bipush (G := gX G 36 1714 (PicK 1 (xUp X ad) [43, 42, 41, 39, 38, 37, 36, 35, 33, 32, 31, 30, 29, 28, 27, 26, 25, 24, 23, 22, 21, 20, 19, 18, 17, 15, 14, 13, 12, 11, 10, 9, 8, 7, 6, 1])) (v := 18) Γ dX1_init_300 (by decide) ?_
  refine K_new (c := 36) (s := 1714) (t := 0) (at_ := .int) (N := 18) (k := 44) Γ Κ (fun _ => rfl) (by decide) (by decide) q1112 ⟨rfl, rfl⟩ rfl rfl q291 rfl rfl (fun h => h) (by decide) (by decide) (by decide) (by rw [hR]; decide) (by rw [hR]; decide) dX1_init_302 dX1_init_304 (fun ad => ?_)
  refine A_aload_n (G := gX G 37 1732 (PicK 1 (xUp X ad) [44, 43, 42, 41, 39, 38, 37, 36, 35, 33, 32, 31, 30, 29, 28, 27, 26, 25, 24, 23, 22, 21, 20, 19, 18, 17, 15, 14, 13, 12, 11, 10, 9, 8, 7, 6, 1])) Γ dX1_init_307 0 rfl ?_
  refine A_sipush (G := gX G 37 1732 (PicK 1 (xUp X ad) [44, 43, 42, 41, 39, 38, 37, 36, 35, 33, 32, 31, 30, 29, 28, 27, 26, 25, 24, 23, 22, 21, 20, 19, 18, 17, 15, 14, 13, 12, 11, 10, 9, 8, 7, 6, 1])) (v := 20000) Γ dX1_init_308 (by decide) ?_
  refine K_put (σ1 := (sI (sJ st0 4 1) 46 20000)) Γ Κ (k := 46) (by decide) q1114 rfl rfl rfl rfl rfl rfl (fun Y j hj => fv_sI hj) (fun _ => rfl) (fun _ _ => rfl) dX1_init_311 ?_
  refine A_aload_n (G := gX G 37 1732 (PicK 1 (xUp X ad) [44, 43, 42, 41, 39, 38, 37, 36, 35, 33, 32, 31, 30, 29, 28, 27, 26, 25, 24, 23, 22, 21, 20, 19, 18, 17, 15, 14, 13, 12, 11, 10, 9, 8, 7, 6, 1])) Γ dX1_init_314 0 rfl ?_
  refine A_sipush (G := gX G 37 1732 (PicK 1 (xUp X ad) [44, 43, 42, 41, 39, 38, 37, 36, 35, 33, 32, 31, 30, 29, 28, 27, 26, 25, 24, 23, 22, 21, 20, 19, 18, 17, 15, 14, 13, 12, 11, 10, 9, 8, 7, 6, 1])) (v := 20000) Γ dX1_init_315 (by decide) ?_
  refine K_put (σ1 := (sI (sI (sJ st0 4 1) 46 20000) 47 20000)) Γ Κ (k := 47) (by decide) q1115 rfl rfl rfl rfl rfl rfl (fun Y j hj => fv_sI hj) (fun _ => rfl) (fun _ _ => rfl) dX1_init_318 ?_
  refine A_aload_n (G := gX G 37 1732 (PicK 1 (xUp X ad) [44, 43, 42, 41, 39, 38, 37, 36, 35, 33, 32, 31, 30, 29, 28, 27, 26, 25, 24, 23, 22, 21, 20, 19, 18, 17, 15, 14, 13, 12, 11, 10, 9, 8, 7, 6, 1])) Γ dX1_init_321 0 rfl ?_
  refine A_bipush (G := gX G 37 1732 (PicK 1 (xUp X ad) [44, 43, 42, 41, 39, 38, 37, 36, 35, 33, 32, 31, 30, 29, 28, 27, 26, 25, 24, 23, 22, 21, 20, 19, 18, 17, 15, 14, 13, 12, 11, 10, 9, 8, 7, 6, 1])) (v := 6) Γ dX1_init_322 (by decide) ?_
  refine K_new (c := 37) (s := 1732) (t := 0) (at_ := .int) (N := 6) (k := 55) Γ Κ (fun _ => rfl) (by decide) (by decide) q1123 ⟨rfl, rfl⟩ rfl rfl q291 rfl rfl (fun h => h) (by decide) (by decide) (by decide) (by rw [hR]; decide) (by rw [hR]; decide) dX1_init_324 dX1_init_326 (fun ad => ?_)
  refine A_aload_n (G := gX G 38 1738 (PicK 1 (xUp X ad) [55, 44, 43, 42, 41, 39, 38, 37, 36, 35, 33, 32, 31, 30, 29, 28, 27, 26, 25, 24, 23, 22, 21, 20, 19, 18, 17, 15, 14, 13, 12, 11, 10, 9, 8, 7, 6, 1])) Γ dX1_init_329 0 rfl ?_
  refine A_bipush (G := gX G 38 1738 (PicK 1 (xUp X ad) [55, 44, 43, 42, 41, 39, 38, 37, 36, 35, 33, 32, 31, 30, 29, 28, 27, 26, 25, 24, 23, 22, 21, 20, 19, 18, 17, 15, 14, 13, 12, 11, 10, 9, 8, 7, 6, 1])) (v := 6) Γ dX1_init_330 (by decide) ?_
  refine K_new (c := 38) (s := 1738) (t := 0) (at_ := .int) (N := 6) (k := 56) Γ Κ (fun _ => rfl) (by decide) (by decide) q1124 ⟨rfl, rfl⟩ rfl rfl q291 rfl rfl (fun h => h) (by decide) (by decide) (by decide) (by rw [hR]; decide) (by rw [hR]; decide) dX1_init_332 dX1_init_334 (fun ad => ?_)
  refine A_aload_n (G := gX G 39 1744 (PicK 1 (xUp X ad) [56, 55, 44, 43, 42, 41, 39, 38, 37, 36, 35, 33, 32, 31, 30, 29, 28, 27, 26, 25, 24, 23, 22, 21, 20, 19, 18, 17, 15, 14, 13, 12, 11, 10, 9, 8, 7, 6, 1])) Γ dX1_init_337 0 rfl ?_
  refine A_bipush (G := gX G 39 1744 (PicK 1 (xUp X ad) [56, 55, 44, 43, 42, 41, 39, 38, 37, 36, 35, 33, 32, 31, 30, 29, 28, 27, 26, 25, 24, 23, 22, 21, 20, 19, 18, 17, 15, 14, 13, 12, 11, 10, 9, 8, 7, 6, 1])) (v := 6) Γ dX1_init_338 (by decide) ?_
  refine K_new (c := 39) (s := 1744) (t := 0) (at_ := .int) (N := 6) (k := 57) Γ Κ (fun _ => rfl) (by decide) (by decide) q1125 ⟨rfl, rfl⟩ rfl rfl q291 rfl rfl (fun h => h) (by decide) (by decide) (by decide) (by rw [hR]; decide) (by rw [hR]; decide) dX1_init_340 dX1_init_342 (fun ad => ?_)
  refine A_aload_n (G := gX G 40 1750 (PicK 1 (xUp X ad) [57, 56, 55, 44, 43, 42, 41, 39, 38, 37, 36, 35, 33, 32, 31, 30, 29, 28, 27, 26, 25, 24, 23, 22, 21, 20, 19, 18, 17, 15, 14, 13, 12, 11, 10, 9, 8, 7, 6, 1])) Γ dX1_init_345 0 rfl ?_
  refine A_bipush (G := gX G 40 1750 (PicK 1 (xUp X ad) [57, 56, 55, 44, 43, 42, 41, 39, 38, 37, 36, 35, 33, 32, 31, 30, 29, 28, 27, 26, 25, 24, 23, 22, 21, 20, 19, 18, 17, 15, 14, 13, 12, 11, 10, 9, 8, 7, 6, 1])) (v := 6) Γ dX1_init_346 (by decide) ?_
  refine K_new (c := 40) (s := 1750) (t := 0) (at_ := .int) (N := 6) (k := 59) Γ Κ (fun _ => rfl) (by decide) (by decide) q1127 ⟨rfl, rfl⟩ rfl rfl q291 rfl rfl (fun h => h) (by decide) (by decide) (by decide) (by rw [hR]; decide) (by rw [hR]; decide) dX1_init_348 dX1_init_350 (fun ad => ?_)
  refine A_aload_n (G := gX G 41 1756 (PicK 1 (xUp X ad) [59, 57, 56, 55, 44, 43, 42, 41, 39, 38, 37, 36, 35, 33, 32, 31, 30, 29, 28, 27, 26, 25, 24, 23, 22, 21, 20, 19, 18, 17, 15, 14, 13, 12, 11, 10, 9, 8, 7, 6, 1])) Γ dX1_init_353 0 rfl ?_
  refine A_bipush (G := gX G 41 1756 (PicK 1 (xUp X ad) [59, 57, 56, 55, 44, 43, 42, 41, 39, 38, 37, 36, 35, 33, 32, 31, 30, 29, 28, 27, 26, 25, 24, 23, 22, 21, 20, 19, 18, 17, 15, 14, 13, 12, 11, 10, 9, 8, 7, 6, 1])) (v := 6) Γ dX1_init_354 (by decide) ?_
  refine K_new (c := 41) (s := 1756) (t := 0) (at_ := .int) (N := 6) (k := 60) Γ Κ (fun _ => rfl) (by decide) (by decide) q1128 ⟨rfl, rfl⟩ rfl rfl q291 rfl rfl (fun h => h) (by decide) (by decide) (by decide) (by rw [hR]; decide) (by rw [hR]; decide) dX1_init_356 dX1_init_358 (fun ad => ?_)
  refine A_aload_n (G := gX G 42 1762 (PicK 1 (xUp X ad) [60, 59, 57, 56, 55, 44, 43, 42, 41, 39, 38, 37, 36, 35, 33, 32, 31, 30, 29, 28, 27, 26, 25, 24, 23, 22, 21, 20, 19, 18, 17, 15, 14, 13, 12, 11, 10, 9, 8, 7, 6, 1])) Γ dX1_init_361 0 rfl ?_
  refine A_bipush (G := gX G 42 1762 (PicK 1 (xUp X ad) [60, 59, 57, 56, 55, 44, 43, 42, 41, 39, 38, 37, 36, 35, 33, 32, 31, 30, 29, 28, 27, 26, 25, 24, 23, 22, 21, 20, 19, 18, 17, 15, 14, 13, 12, 11, 10, 9, 8, 7, 6, 1])) (v := 6) Γ dX1_init_362 (by decide) ?_
  refine K_new (c := 42) (s := 1762) (t := 0) (at_ := .int) (N := 6) (k := 61) Γ Κ (fun _ => rfl) (by decide) (by decide) q1129 ⟨rfl, rfl⟩ rfl rfl q291 rfl rfl (fun h => h) (by decide) (by decide) (by decide) (by rw [hR]; decide) (by rw [hR]; decide) dX1_init_364 dX1_init_366 (fun ad => ?_)
  refine A_aload_n (G := gX G 43 1768 (PicK 1 (xUp X ad) [61, 60, 59, 57, 56, 55, 44, 43, 42, 41, 39, 38, 37, 36, 35, 33, 32, 31, 30, 29, 28, 27, 26, 25, 24, 23, 22, 21, 20, 19, 18, 17, 15, 14, 13, 12, 11, 10, 9, 8, 7, 6, 1])) Γ dX1_init_369 0 rfl ?_
  refine A_bipush (G := gX G 43 1768 (PicK 1 (xUp X ad) [61, 60, 59, 57, 56, 55, 44, 43, 42, 41, 39, 38, 37, 36, 35, 33, 32, 31, 30, 29, 28, 27, 26, 25, 24, 23, 22, 21, 20, 19, 18, 17, 15, 14, 13, 12, 11, 10, 9, 8, 7, 6, 1])) (v := 64) Γ dX1_init_370 (by decide) ?_
  refine K_new (c := 43) (s := 1768) (t := 0) (at_ := .int) (N := 64) (k := 63) Γ Κ (fun _ => rfl) (by decide) (by decide) q1131 ⟨rfl, rfl⟩ rfl rfl q291 rfl rfl (fun h => h) (by decide) (by decide) (by decide) (by rw [hR]; decide) (by rw [hR]; decide) dX1_init_372 dX1_init_374 (fun ad => ?_)
  refine A_aload_n (G := gX G 44 1832 (PicK 1 (xUp X ad) [63, 61, 60, 59, 57, 56, 55, 44, 43, 42, 41, 39, 38, 37, 36, 35, 33, 32, 31, 30, 29, 28, 27, 26, 25, 24, 23, 22, 21, 20, 19, 18, 17, 15, 14, 13, 12, 11, 10, 9, 8, 7, 6, 1])) Γ dX1_init_377 0 rfl ?_
  refine A_bipush (G := gX G 44 1832 (PicK 1 (xUp X ad) [63, 61, 60, 59, 57, 56, 55, 44, 43, 42, 41, 39, 38, 37, 36, 35, 33, 32, 31, 30, 29, 28, 27, 26, 25, 24, 23, 22, 21, 20, 19, 18, 17, 15, 14, 13, 12, 11, 10, 9, 8, 7, 6, 1])) (v := 8) Γ dX1_init_378 (by decide) ?_
  refine K_new (c := 44) (s := 1832) (t := 0) (at_ := .int) (N := 8) (k := 64) Γ Κ (fun _ => rfl) (by decide) (by decide) q1132 ⟨rfl, rfl⟩ rfl rfl q291 rfl rfl (fun h => h) (by decide) (by decide) (by decide) (by rw [hR]; decide) (by rw [hR]; decide) dX1_init_380 dX1_init_382 (fun ad => ?_)
  refine A_aload_n (G := gX G 45 1840 (PicK 1 (xUp X ad) [64, 63, 61, 60, 59, 57, 56, 55, 44, 43, 42, 41, 39, 38, 37, 36, 35, 33, 32, 31, 30, 29, 28, 27, 26, 25, 24, 23, 22, 21, 20, 19, 18, 17, 15, 14, 13, 12, 11, 10, 9, 8, 7, 6, 1])) Γ dX1_init_385 0 rfl ?_
  refine A_bipush (G := gX G 45 1840 (PicK 1 (xUp X ad) [64, 63, 61, 60, 59, 57, 56, 55, 44, 43, 42, 41, 39, 38, 37, 36, 35, 33, 32, 31, 30, 29, 28, 27, 26, 25, 24, 23, 22, 21, 20, 19, 18, 17, 15, 14, 13, 12, 11, 10, 9, 8, 7, 6, 1])) (v := 8) Γ dX1_init_386 (by decide) ?_
  refine K_new (c := 45) (s := 1840) (t := 0) (at_ := .int) (N := 8) (k := 65) Γ Κ (fun _ => rfl) (by decide) (by decide) q1133 ⟨rfl, rfl⟩ rfl rfl q291 rfl rfl (fun h => h) (by decide) (by decide) (by decide) (by rw [hR]; decide) (by rw [hR]; decide) dX1_init_388 dX1_init_390 (fun ad => ?_)
  refine A_aload_n (G := gX G 46 1848 (PicK 1 (xUp X ad) [65, 64, 63, 61, 60, 59, 57, 56, 55, 44, 43, 42, 41, 39, 38, 37, 36, 35, 33, 32, 31, 30, 29, 28, 27, 26, 25, 24, 23, 22, 21, 20, 19, 18, 17, 15, 14, 13, 12, 11, 10, 9, 8, 7, 6, 1])) Γ dX1_init_393 0 rfl ?_
  refine A_bipush (G := gX G 46 1848 (PicK 1 (xUp X ad) [65, 64, 63, 61, 60, 59, 57, 56, 55, 44, 43, 42, 41, 39, 38, 37, 36, 35, 33, 32, 31, 30, 29, 28, 27, 26, 25, 24, 23, 22, 21, 20, 19, 18, 17, 15, 14, 13, 12, 11, 10, 9, 8, 7, 6, 1])) (v := 64) Γ dX1_init_394 (by decide) ?_
  refine K_new (c := 46) (s := 1848) (t := 0) (at_ := .int) (N := 64) (k := 66) Γ Κ (fun _ => rfl) (by decide) (by decide) q1134 ⟨rfl, rfl⟩ rfl rfl q291 rfl rfl (fun h => h) (by decide) (by decide) (by decide) (by rw [hR]; decide) (by rw [hR]; decide) dX1_init_396 dX1_init_398 (fun ad => ?_)
  refine A_aload_n (G := gX G 47 1912 (PicK 1 (xUp X ad) [66, 65, 64, 63, 61, 60, 59, 57, 56, 55, 44, 43, 42, 41, 39, 38, 37, 36, 35, 33, 32, 31, 30, 29, 28, 27, 26, 25, 24, 23, 22, 21, 20, 19, 18, 17, 15, 14, 13, 12, 11, 10, 9, 8, 7, 6, 1])) Γ dX1_init_401 0 rfl ?_
  refine A_bipush (G := gX G 47 1912 (PicK 1 (xUp X ad) [66, 65, 64, 63, 61, 60, 59, 57, 56, 55, 44, 43, 42, 41, 39, 38, 37, 36, 35, 33, 32, 31, 30, 29, 28, 27, 26, 25, 24, 23, 22, 21, 20, 19, 18, 17, 15, 14, 13, 12, 11, 10, 9, 8, 7, 6, 1])) (v := 16) Γ dX1_init_402 (by decide) ?_
  refine K_new (c := 47) (s := 1912) (t := 0) (at_ := .int) (N := 16) (k := 67) Γ Κ (fun _ => rfl) (by decide) (by decide) q1135 ⟨rfl, rfl⟩ rfl rfl q291 rfl rfl (fun h => h) (by decide) (by decide) (by decide) (by rw [hR]; decide) (by rw [hR]; decide) dX1_init_404 dX1_init_406 (fun ad => ?_)
  refine A_aload_n (G := gX G 48 1928 (PicK 1 (xUp X ad) [67, 66, 65, 64, 63, 61, 60, 59, 57, 56, 55, 44, 43, 42, 41, 39, 38, 37, 36, 35, 33, 32, 31, 30, 29, 28, 27, 26, 25, 24, 23, 22, 21, 20, 19, 18, 17, 15, 14, 13, 12, 11, 10, 9, 8, 7, 6, 1])) Γ dX1_init_409 0 rfl ?_
  refine A_bipush (G := gX G 48 1928 (PicK 1 (xUp X ad) [67, 66, 65, 64, 63, 61, 60, 59, 57, 56, 55, 44, 43, 42, 41, 39, 38, 37, 36, 35, 33, 32, 31, 30, 29, 28, 27, 26, 25, 24, 23, 22, 21, 20, 19, 18, 17, 15, 14, 13, 12, 11, 10, 9, 8, 7, 6, 1])) (v := 16) Γ dX1_init_410 (by decide) ?_
  refine K_new (c := 48) (s := 1928) (t := 0) (at_ := .int) (N := 16) (k := 68) Γ Κ (fun _ => rfl) (by decide) (by decide) q1136 ⟨rfl, rfl⟩ rfl rfl q291 rfl rfl (fun h => h) (by decide) (by decide) (by decide) (by rw [hR]; decide) (by rw [hR]; decide) dX1_init_412 dX1_init_414 (fun ad => ?_)
  refine A_aload_n (G := gX G 49 1944 (PicK 1 (xUp X ad) [68, 67, 66, 65, 64, 63, 61, 60, 59, 57, 56, 55, 44, 43, 42, 41, 39, 38, 37, 36, 35, 33, 32, 31, 30, 29, 28, 27, 26, 25, 24, 23, 22, 21, 20, 19, 18, 17, 15, 14, 13, 12, 11, 10, 9, 8, 7, 6, 1])) Γ dX1_init_417 0 rfl ?_
  refine A_bipush (G := gX G 49 1944 (PicK 1 (xUp X ad) [68, 67, 66, 65, 64, 63, 61, 60, 59, 57, 56, 55, 44, 43, 42, 41, 39, 38, 37, 36, 35, 33, 32, 31, 30, 29, 28, 27, 26, 25, 24, 23, 22, 21, 20, 19, 18, 17, 15, 14, 13, 12, 11, 10, 9, 8, 7, 6, 1])) (v := 40) Γ dX1_init_418 (by decide) ?_
  refine K_new (c := 49) (s := 1944) (t := 0) (at_ := .int) (N := 40) (k := 70) Γ Κ (fun _ => rfl) (by decide) (by decide) q1138 ⟨rfl, rfl⟩ rfl rfl q291 rfl rfl (fun h => h) (by decide) (by decide) (by decide) (by rw [hR]; decide) (by rw [hR]; decide) dX1_init_420 dX1_init_422 (fun ad => ?_)
  refine A_aload_n (G := gX G 50 1984 (PicK 1 (xUp X ad) [70, 68, 67, 66, 65, 64, 63, 61, 60, 59, 57, 56, 55, 44, 43, 42, 41, 39, 38, 37, 36, 35, 33, 32, 31, 30, 29, 28, 27, 26, 25, 24, 23, 22, 21, 20, 19, 18, 17, 15, 14, 13, 12, 11, 10, 9, 8, 7, 6, 1])) Γ dX1_init_425 0 rfl ?_
  refine A_sipush (G := gX G 50 1984 (PicK 1 (xUp X ad) [70, 68, 67, 66, 65, 64, 63, 61, 60, 59, 57, 56, 55, 44, 43, 42, 41, 39, 38, 37, 36, 35, 33, 32, 31, 30, 29, 28, 27, 26, 25, 24, 23, 22, 21, 20, 19, 18, 17, 15, 14, 13, 12, 11, 10, 9, 8, 7, 6, 1])) (v := 410) Γ dX1_init_426 (by decide) ?_
  refine K_new (c := 50) (s := 1984) (t := 3) (at_ := .long) (N := 410) (k := 71) Γ Κ (fun _ => rfl) (by decide) (by decide) q1139 ⟨rfl, rfl⟩ rfl rfl q1288 rfl rfl (fun h => h) (by decide) (by decide) (by decide) (by rw [hR]; decide) (by rw [hR]; decide) dX1_init_429 dX1_init_431 (fun ad => ?_)
  refine K_done (by decide) (fun _ => rfl) ?_
  have Ξ : OkX 1 (gX G 51 2394 (Pic 1 (xUp X ad))) (xUp X ad) := ⟨Κ.1, rfl, Κ.2.1, hXK⟩
  have Γ1 : Ok (gX G 51 2394 (Pic 1 (xUp X ad))) RX1 cX1_init 2 := Γ
  refine A_iconst (v := nI 0) Γ1 dX1_init_434 (by decide) ?_
  refine A_istore_n (lv' := [(1, .int (nI 0)), (0, .ref (xo X))]) Γ1 dX1_init_435 (by decide) rfl ?_
  refine A_iload_n Γ1 dX1_init_436 0 rfl ?_
  refine A_bipush (v := nI 6) Γ1 dX1_init_437 (by decide) ?_
  refine A_icmp_ge (t := 456) Γ1 dX1_init_439 (by decide) (fun w => absurd (show nI 6 ≤ nI 0 from w) (by decide)) (fun _ => ?_)
  refine A_aload_n Γ1 dX1_init_442 1 rfl ?_
  refine g1_6 (X := xUp X ad) Γ1 Ξ dX1_init_443 ?_
  refine A_iload_n Γ1 dX1_init_446 0 rfl ?_
  refine A_bipush (v := (-9)) Γ1 dX1_init_447 (by decide) ?_
  refine w1_6 (X := xUp X ad) (σ1 := sx1_1) Γ1 Ξ (wrA_nI (n := 6) (j := 0) (σ := sx1_0) (by decide) (by decide)) dX1_init_449 ?_
  refine A_iinc (v := nI 1) (lv' := [(1, .int (nI 1)), (0, .ref (xo X))]) Γ1 dX1_init_450 0 rfl (by decide) (by decide) rfl ?_
  refine A_goto (t := 436) Γ1 dX1_init_453 (by decide) ?_
  refine A_iload_n Γ1 dX1_init_436 0 rfl ?_
  refine A_bipush (v := nI 6) Γ1 dX1_init_437 (by decide) ?_
  refine A_icmp_ge (t := 456) Γ1 dX1_init_439 (by decide) (fun w => absurd (show nI 6 ≤ nI 1 from w) (by decide)) (fun _ => ?_)
  refine A_aload_n Γ1 dX1_init_442 1 rfl ?_
  refine g1_6 (X := xUp X ad) Γ1 Ξ dX1_init_443 ?_
  refine A_iload_n Γ1 dX1_init_446 0 rfl ?_
  refine A_bipush (v := (-9)) Γ1 dX1_init_447 (by decide) ?_
  refine w1_6 (X := xUp X ad) (σ1 := sx1_2) Γ1 Ξ (wrA_nI (n := 6) (j := 1) (σ := sx1_1) (by decide) (by decide)) dX1_init_449 ?_
  refine A_iinc (v := nI 2) (lv' := [(1, .int (nI 2)), (0, .ref (xo X))]) Γ1 dX1_init_450 0 rfl (by decide) (by decide) rfl ?_
  refine A_goto (t := 436) Γ1 dX1_init_453 (by decide) ?_
  refine A_iload_n Γ1 dX1_init_436 0 rfl ?_
  refine A_bipush (v := nI 6) Γ1 dX1_init_437 (by decide) ?_
  refine A_icmp_ge (t := 456) Γ1 dX1_init_439 (by decide) (fun w => absurd (show nI 6 ≤ nI 2 from w) (by decide)) (fun _ => ?_)
  refine A_aload_n Γ1 dX1_init_442 1 rfl ?_
  refine g1_6 (X := xUp X ad) Γ1 Ξ dX1_init_443 ?_
  refine A_iload_n Γ1 dX1_init_446 0 rfl ?_
  refine A_bipush (v := (-9)) Γ1 dX1_init_447 (by decide) ?_
  refine w1_6 (X := xUp X ad) (σ1 := sx1_3) Γ1 Ξ (wrA_nI (n := 6) (j := 2) (σ := sx1_2) (by decide) (by decide)) dX1_init_449 ?_
  refine A_iinc (v := nI 3) (lv' := [(1, .int (nI 3)), (0, .ref (xo X))]) Γ1 dX1_init_450 0 rfl (by decide) (by decide) rfl ?_
  refine A_goto (t := 436) Γ1 dX1_init_453 (by decide) ?_
  refine A_iload_n Γ1 dX1_init_436 0 rfl ?_
  refine A_bipush (v := nI 6) Γ1 dX1_init_437 (by decide) ?_
  refine A_icmp_ge (t := 456) Γ1 dX1_init_439 (by decide) (fun w => absurd (show nI 6 ≤ nI 3 from w) (by decide)) (fun _ => ?_)
  refine A_aload_n Γ1 dX1_init_442 1 rfl ?_
  refine g1_6 (X := xUp X ad) Γ1 Ξ dX1_init_443 ?_
  refine A_iload_n Γ1 dX1_init_446 0 rfl ?_
  refine A_bipush (v := (-9)) Γ1 dX1_init_447 (by decide) ?_
  refine w1_6 (X := xUp X ad) (σ1 := sx1_4) Γ1 Ξ (wrA_nI (n := 6) (j := 3) (σ := sx1_3) (by decide) (by decide)) dX1_init_449 ?_
  refine A_iinc (v := nI 4) (lv' := [(1, .int (nI 4)), (0, .ref (xo X))]) Γ1 dX1_init_450 0 rfl (by decide) (by decide) rfl ?_
  refine A_goto (t := 436) Γ1 dX1_init_453 (by decide) ?_
  refine A_iload_n Γ1 dX1_init_436 0 rfl ?_
  refine A_bipush (v := nI 6) Γ1 dX1_init_437 (by decide) ?_
  refine A_icmp_ge (t := 456) Γ1 dX1_init_439 (by decide) (fun w => absurd (show nI 6 ≤ nI 4 from w) (by decide)) (fun _ => ?_)
  refine A_aload_n Γ1 dX1_init_442 1 rfl ?_
  refine g1_6 (X := xUp X ad) Γ1 Ξ dX1_init_443 ?_
  refine A_iload_n Γ1 dX1_init_446 0 rfl ?_
  refine A_bipush (v := (-9)) Γ1 dX1_init_447 (by decide) ?_
  refine w1_6 (X := xUp X ad) (σ1 := sx1_5) Γ1 Ξ (wrA_nI (n := 6) (j := 4) (σ := sx1_4) (by decide) (by decide)) dX1_init_449 ?_
  refine A_iinc (v := nI 5) (lv' := [(1, .int (nI 5)), (0, .ref (xo X))]) Γ1 dX1_init_450 0 rfl (by decide) (by decide) rfl ?_
  refine A_goto (t := 436) Γ1 dX1_init_453 (by decide) ?_
  refine A_iload_n Γ1 dX1_init_436 0 rfl ?_
  refine A_bipush (v := nI 6) Γ1 dX1_init_437 (by decide) ?_
  refine A_icmp_ge (t := 456) Γ1 dX1_init_439 (by decide) (fun w => absurd (show nI 6 ≤ nI 5 from w) (by decide)) (fun _ => ?_)
  refine A_aload_n Γ1 dX1_init_442 1 rfl ?_
  refine g1_6 (X := xUp X ad) Γ1 Ξ dX1_init_443 ?_
  refine A_iload_n Γ1 dX1_init_446 0 rfl ?_
  refine A_bipush (v := (-9)) Γ1 dX1_init_447 (by decide) ?_
  refine w1_6 (X := xUp X ad) (σ1 := sx1_6) Γ1 Ξ (wrA_nI (n := 6) (j := 5) (σ := sx1_5) (by decide) (by decide)) dX1_init_449 ?_
  refine A_iinc (v := nI 6) (lv' := [(1, .int (nI 6)), (0, .ref (xo X))]) Γ1 dX1_init_450 0 rfl (by decide) (by decide) rfl ?_
  refine A_goto (t := 436) Γ1 dX1_init_453 (by decide) ?_
  refine A_iload_n Γ1 dX1_init_436 0 rfl ?_
  refine A_bipush (v := nI 6) Γ1 dX1_init_437 (by decide) ?_
  refine A_icmp_ge (t := 456) Γ1 dX1_init_439 (by decide) (fun _ => ?_) (fun w => absurd (show nI 6 ≤ nI 6 by decide) w)
  refine A_iconst (v := nI 0) Γ1 dX1_init_456 (by decide) ?_
  refine A_istore_n (lv' := [(1, .int (nI 0)), (0, .ref (xo X))]) Γ1 dX1_init_457 (by decide) rfl ?_
  refine A_iload_n Γ1 dX1_init_458 0 rfl ?_
  refine A_iconst (v := nI 4) Γ1 dX1_init_459 (by decide) ?_
  refine A_icmp_ge (t := 477) Γ1 dX1_init_460 (by decide) (fun w => absurd (show nI 4 ≤ nI 0 from w) (by decide)) (fun _ => ?_)
  refine A_aload_n Γ1 dX1_init_463 1 rfl ?_
  refine g1_9 (X := xUp X ad) Γ1 Ξ dX1_init_464 ?_
  refine A_iload_n Γ1 dX1_init_467 0 rfl ?_
  refine A_bipush (v := (-9)) Γ1 dX1_init_468 (by decide) ?_
  refine w1_9 (X := xUp X ad) (σ1 := sx1_7) Γ1 Ξ (wrA_nI (n := 4) (j := 0) (σ := sx1_6) (by decide) (by decide)) dX1_init_470 ?_
  refine A_iinc (v := nI 1) (lv' := [(1, .int (nI 1)), (0, .ref (xo X))]) Γ1 dX1_init_471 0 rfl (by decide) (by decide) rfl ?_
  refine A_goto (t := 458) Γ1 dX1_init_474 (by decide) ?_
  refine A_iload_n Γ1 dX1_init_458 0 rfl ?_
  refine A_iconst (v := nI 4) Γ1 dX1_init_459 (by decide) ?_
  refine A_icmp_ge (t := 477) Γ1 dX1_init_460 (by decide) (fun w => absurd (show nI 4 ≤ nI 1 from w) (by decide)) (fun _ => ?_)
  refine A_aload_n Γ1 dX1_init_463 1 rfl ?_
  refine g1_9 (X := xUp X ad) Γ1 Ξ dX1_init_464 ?_
  refine A_iload_n Γ1 dX1_init_467 0 rfl ?_
  refine A_bipush (v := (-9)) Γ1 dX1_init_468 (by decide) ?_
  refine w1_9 (X := xUp X ad) (σ1 := sx1_8) Γ1 Ξ (wrA_nI (n := 4) (j := 1) (σ := sx1_7) (by decide) (by decide)) dX1_init_470 ?_
  refine A_iinc (v := nI 2) (lv' := [(1, .int (nI 2)), (0, .ref (xo X))]) Γ1 dX1_init_471 0 rfl (by decide) (by decide) rfl ?_
  refine A_goto (t := 458) Γ1 dX1_init_474 (by decide) ?_
  refine A_iload_n Γ1 dX1_init_458 0 rfl ?_
  refine A_iconst (v := nI 4) Γ1 dX1_init_459 (by decide) ?_
  refine A_icmp_ge (t := 477) Γ1 dX1_init_460 (by decide) (fun w => absurd (show nI 4 ≤ nI 2 from w) (by decide)) (fun _ => ?_)
  refine A_aload_n Γ1 dX1_init_463 1 rfl ?_
  refine g1_9 (X := xUp X ad) Γ1 Ξ dX1_init_464 ?_
  refine A_iload_n Γ1 dX1_init_467 0 rfl ?_
  refine A_bipush (v := (-9)) Γ1 dX1_init_468 (by decide) ?_
  refine w1_9 (X := xUp X ad) (σ1 := sx1_9) Γ1 Ξ (wrA_nI (n := 4) (j := 2) (σ := sx1_8) (by decide) (by decide)) dX1_init_470 ?_
  refine A_iinc (v := nI 3) (lv' := [(1, .int (nI 3)), (0, .ref (xo X))]) Γ1 dX1_init_471 0 rfl (by decide) (by decide) rfl ?_
  refine A_goto (t := 458) Γ1 dX1_init_474 (by decide) ?_
  refine A_iload_n Γ1 dX1_init_458 0 rfl ?_
  refine A_iconst (v := nI 4) Γ1 dX1_init_459 (by decide) ?_
  refine A_icmp_ge (t := 477) Γ1 dX1_init_460 (by decide) (fun w => absurd (show nI 4 ≤ nI 3 from w) (by decide)) (fun _ => ?_)
  refine A_aload_n Γ1 dX1_init_463 1 rfl ?_
  refine g1_9 (X := xUp X ad) Γ1 Ξ dX1_init_464 ?_
  refine A_iload_n Γ1 dX1_init_467 0 rfl ?_
  refine A_bipush (v := (-9)) Γ1 dX1_init_468 (by decide) ?_
  refine w1_9 (X := xUp X ad) (σ1 := sx1_10) Γ1 Ξ (wrA_nI (n := 4) (j := 3) (σ := sx1_9) (by decide) (by decide)) dX1_init_470 ?_
  refine A_iinc (v := nI 4) (lv' := [(1, .int (nI 4)), (0, .ref (xo X))]) Γ1 dX1_init_471 0 rfl (by decide) (by decide) rfl ?_
  refine A_goto (t := 458) Γ1 dX1_init_474 (by decide) ?_
  refine A_iload_n Γ1 dX1_init_458 0 rfl ?_
  refine A_iconst (v := nI 4) Γ1 dX1_init_459 (by decide) ?_
  refine A_icmp_ge (t := 477) Γ1 dX1_init_460 (by decide) (fun _ => ?_) (fun w => absurd (show nI 4 ≤ nI 4 by decide) w)
  refine A_iconst (v := nI 0) Γ1 dX1_init_477 (by decide) ?_
  refine A_istore_n (lv' := [(1, .int (nI 0)), (0, .ref (xo X))]) Γ1 dX1_init_478 (by decide) rfl ?_
  refine A_iload_n Γ1 dX1_init_479 0 rfl ?_
  refine A_bipush (v := nI 6) Γ1 dX1_init_480 (by decide) ?_
  refine A_icmp_ge (t := 507) Γ1 dX1_init_482 (by decide) (fun w => absurd (show nI 6 ≤ nI 0 from w) (by decide)) (fun _ => ?_)
  refine A_aload_n Γ1 dX1_init_485 1 rfl ?_
  refine g1_31 (X := xUp X ad) Γ1 Ξ dX1_init_486 ?_
  refine A_iload_n Γ1 dX1_init_489 0 rfl ?_
  refine A_bipush (v := (-9)) Γ1 dX1_init_490 (by decide) ?_
  refine w1_31 (X := xUp X ad) (σ1 := sx1_11) Γ1 Ξ (wrA_nI (n := 6) (j := 0) (σ := sx1_10) (by decide) (by decide)) dX1_init_492 ?_
  refine A_aload_n Γ1 dX1_init_493 1 rfl ?_
  refine g1_55 (X := xUp X ad) Γ1 Ξ dX1_init_494 ?_
  refine A_iload_n Γ1 dX1_init_497 0 rfl ?_
  refine A_bipush (v := (-9)) Γ1 dX1_init_498 (by decide) ?_
  refine w1_55 (X := xUp X ad) (σ1 := sx1_12) Γ1 Ξ (wrA_nI (n := 6) (j := 0) (σ := sx1_11) (by decide) (by decide)) dX1_init_500 ?_
  refine A_iinc (v := nI 1) (lv' := [(1, .int (nI 1)), (0, .ref (xo X))]) Γ1 dX1_init_501 0 rfl (by decide) (by decide) rfl ?_
  refine A_goto (t := 479) Γ1 dX1_init_504 (by decide) ?_
  refine A_iload_n Γ1 dX1_init_479 0 rfl ?_
  refine A_bipush (v := nI 6) Γ1 dX1_init_480 (by decide) ?_
  refine A_icmp_ge (t := 507) Γ1 dX1_init_482 (by decide) (fun w => absurd (show nI 6 ≤ nI 1 from w) (by decide)) (fun _ => ?_)
  refine A_aload_n Γ1 dX1_init_485 1 rfl ?_
  refine g1_31 (X := xUp X ad) Γ1 Ξ dX1_init_486 ?_
  refine A_iload_n Γ1 dX1_init_489 0 rfl ?_
  refine A_bipush (v := (-9)) Γ1 dX1_init_490 (by decide) ?_
  refine w1_31 (X := xUp X ad) (σ1 := sx1_13) Γ1 Ξ (wrA_nI (n := 6) (j := 1) (σ := sx1_12) (by decide) (by decide)) dX1_init_492 ?_
  refine A_aload_n Γ1 dX1_init_493 1 rfl ?_
  refine g1_55 (X := xUp X ad) Γ1 Ξ dX1_init_494 ?_
  refine A_iload_n Γ1 dX1_init_497 0 rfl ?_
  refine A_bipush (v := (-9)) Γ1 dX1_init_498 (by decide) ?_
  refine w1_55 (X := xUp X ad) (σ1 := sx1_14) Γ1 Ξ (wrA_nI (n := 6) (j := 1) (σ := sx1_13) (by decide) (by decide)) dX1_init_500 ?_
  refine A_iinc (v := nI 2) (lv' := [(1, .int (nI 2)), (0, .ref (xo X))]) Γ1 dX1_init_501 0 rfl (by decide) (by decide) rfl ?_
  refine A_goto (t := 479) Γ1 dX1_init_504 (by decide) ?_
  refine A_iload_n Γ1 dX1_init_479 0 rfl ?_
  refine A_bipush (v := nI 6) Γ1 dX1_init_480 (by decide) ?_
  refine A_icmp_ge (t := 507) Γ1 dX1_init_482 (by decide) (fun w => absurd (show nI 6 ≤ nI 2 from w) (by decide)) (fun _ => ?_)
  refine A_aload_n Γ1 dX1_init_485 1 rfl ?_
  refine g1_31 (X := xUp X ad) Γ1 Ξ dX1_init_486 ?_
  refine A_iload_n Γ1 dX1_init_489 0 rfl ?_
  refine A_bipush (v := (-9)) Γ1 dX1_init_490 (by decide) ?_
  refine w1_31 (X := xUp X ad) (σ1 := sx1_15) Γ1 Ξ (wrA_nI (n := 6) (j := 2) (σ := sx1_14) (by decide) (by decide)) dX1_init_492 ?_
  refine A_aload_n Γ1 dX1_init_493 1 rfl ?_
  refine g1_55 (X := xUp X ad) Γ1 Ξ dX1_init_494 ?_
  refine A_iload_n Γ1 dX1_init_497 0 rfl ?_
  refine A_bipush (v := (-9)) Γ1 dX1_init_498 (by decide) ?_
  refine w1_55 (X := xUp X ad) (σ1 := sx1_16) Γ1 Ξ (wrA_nI (n := 6) (j := 2) (σ := sx1_15) (by decide) (by decide)) dX1_init_500 ?_
  refine A_iinc (v := nI 3) (lv' := [(1, .int (nI 3)), (0, .ref (xo X))]) Γ1 dX1_init_501 0 rfl (by decide) (by decide) rfl ?_
  refine A_goto (t := 479) Γ1 dX1_init_504 (by decide) ?_
  refine A_iload_n Γ1 dX1_init_479 0 rfl ?_
  refine A_bipush (v := nI 6) Γ1 dX1_init_480 (by decide) ?_
  refine A_icmp_ge (t := 507) Γ1 dX1_init_482 (by decide) (fun w => absurd (show nI 6 ≤ nI 3 from w) (by decide)) (fun _ => ?_)
  refine A_aload_n Γ1 dX1_init_485 1 rfl ?_
  refine g1_31 (X := xUp X ad) Γ1 Ξ dX1_init_486 ?_
  refine A_iload_n Γ1 dX1_init_489 0 rfl ?_
  refine A_bipush (v := (-9)) Γ1 dX1_init_490 (by decide) ?_
  refine w1_31 (X := xUp X ad) (σ1 := sx1_17) Γ1 Ξ (wrA_nI (n := 6) (j := 3) (σ := sx1_16) (by decide) (by decide)) dX1_init_492 ?_
  refine A_aload_n Γ1 dX1_init_493 1 rfl ?_
  refine g1_55 (X := xUp X ad) Γ1 Ξ dX1_init_494 ?_
  refine A_iload_n Γ1 dX1_init_497 0 rfl ?_
  refine A_bipush (v := (-9)) Γ1 dX1_init_498 (by decide) ?_
  refine w1_55 (X := xUp X ad) (σ1 := sx1_18) Γ1 Ξ (wrA_nI (n := 6) (j := 3) (σ := sx1_17) (by decide) (by decide)) dX1_init_500 ?_
  refine A_iinc (v := nI 4) (lv' := [(1, .int (nI 4)), (0, .ref (xo X))]) Γ1 dX1_init_501 0 rfl (by decide) (by decide) rfl ?_
  refine A_goto (t := 479) Γ1 dX1_init_504 (by decide) ?_
  refine A_iload_n Γ1 dX1_init_479 0 rfl ?_
  refine A_bipush (v := nI 6) Γ1 dX1_init_480 (by decide) ?_
  refine A_icmp_ge (t := 507) Γ1 dX1_init_482 (by decide) (fun w => absurd (show nI 6 ≤ nI 4 from w) (by decide)) (fun _ => ?_)
  refine A_aload_n Γ1 dX1_init_485 1 rfl ?_
  refine g1_31 (X := xUp X ad) Γ1 Ξ dX1_init_486 ?_
  refine A_iload_n Γ1 dX1_init_489 0 rfl ?_
  refine A_bipush (v := (-9)) Γ1 dX1_init_490 (by decide) ?_
  refine w1_31 (X := xUp X ad) (σ1 := sx1_19) Γ1 Ξ (wrA_nI (n := 6) (j := 4) (σ := sx1_18) (by decide) (by decide)) dX1_init_492 ?_
  refine A_aload_n Γ1 dX1_init_493 1 rfl ?_
  refine g1_55 (X := xUp X ad) Γ1 Ξ dX1_init_494 ?_
  refine A_iload_n Γ1 dX1_init_497 0 rfl ?_
  refine A_bipush (v := (-9)) Γ1 dX1_init_498 (by decide) ?_
  refine w1_55 (X := xUp X ad) (σ1 := sx1_20) Γ1 Ξ (wrA_nI (n := 6) (j := 4) (σ := sx1_19) (by decide) (by decide)) dX1_init_500 ?_
  refine A_iinc (v := nI 5) (lv' := [(1, .int (nI 5)), (0, .ref (xo X))]) Γ1 dX1_init_501 0 rfl (by decide) (by decide) rfl ?_
  refine A_goto (t := 479) Γ1 dX1_init_504 (by decide) ?_
  refine A_iload_n Γ1 dX1_init_479 0 rfl ?_
  refine A_bipush (v := nI 6) Γ1 dX1_init_480 (by decide) ?_
  refine A_icmp_ge (t := 507) Γ1 dX1_init_482 (by decide) (fun w => absurd (show nI 6 ≤ nI 5 from w) (by decide)) (fun _ => ?_)
  refine A_aload_n Γ1 dX1_init_485 1 rfl ?_
  refine g1_31 (X := xUp X ad) Γ1 Ξ dX1_init_486 ?_
  refine A_iload_n Γ1 dX1_init_489 0 rfl ?_
  refine A_bipush (v := (-9)) Γ1 dX1_init_490 (by decide) ?_
  refine w1_31 (X := xUp X ad) (σ1 := sx1_21) Γ1 Ξ (wrA_nI (n := 6) (j := 5) (σ := sx1_20) (by decide) (by decide)) dX1_init_492 ?_
  refine A_aload_n Γ1 dX1_init_493 1 rfl ?_
  refine g1_55 (X := xUp X ad) Γ1 Ξ dX1_init_494 ?_
  refine A_iload_n Γ1 dX1_init_497 0 rfl ?_
  refine A_bipush (v := (-9)) Γ1 dX1_init_498 (by decide) ?_
  refine w1_55 (X := xUp X ad) (σ1 := sx1_22) Γ1 Ξ (wrA_nI (n := 6) (j := 5) (σ := sx1_21) (by decide) (by decide)) dX1_init_500 ?_
  refine A_iinc (v := nI 6) (lv' := [(1, .int (nI 6)), (0, .ref (xo X))]) Γ1 dX1_init_501 0 rfl (by decide) (by decide) rfl ?_
  refine A_goto (t := 479) Γ1 dX1_init_504 (by decide) ?_
  refine A_iload_n Γ1 dX1_init_479 0 rfl ?_
  refine A_bipush (v := nI 6) Γ1 dX1_init_480 (by decide) ?_
  refine A_icmp_ge (t := 507) Γ1 dX1_init_482 (by decide) (fun _ => ?_) (fun w => absurd (show nI 6 ≤ nI 6 by decide) w)
  exact hret ad _ _ dX1_init_507)
/-! the constructor of TrailerYards, by mkinit.py -/
abbrev sx0_0 : St := (sI (sI (sJ st0 4 1) 20 20000) 21 20000)
abbrev sx0_1 : St := sA sx0_0 30 0 (-9)
abbrev sx0_2 : St := sA sx0_1 43 0 (-9)
abbrev sx0_3 : St := sA sx0_2 30 1 (-9)
abbrev sx0_4 : St := sA sx0_3 43 1 (-9)
abbrev sx0_5 : St := sA sx0_4 30 2 (-9)
abbrev sx0_6 : St := sA sx0_5 43 2 (-9)
abbrev sx0_7 : St := sA sx0_6 30 3 (-9)
abbrev sx0_8 : St := sA sx0_7 43 3 (-9)
abbrev sx0_9 : St := sA sx0_8 30 4 (-9)
abbrev sx0_10 : St := sA sx0_9 43 4 (-9)
abbrev sx0_11 : St := sA sx0_10 30 5 (-9)
abbrev sx0_12 : St := sA sx0_11 43 5 (-9)
set_option maxHeartbeats 8000000 in
set_option maxRecDepth 100000 in
theorem mtX0_init (l : Launch) (X : Xw) : MetC 0 l X yX0_init cX0_init 2 1 20 42 2610 sx0_12 := MetC.ofAt (by decide) rfl (by decide) in_X0 rfl tyX0_ok nmX0 (fun G Γ Κ hXO hXK hR hret => by
  refine A_aload_n (G := gX G 0 0 (PicK 0 (xUp X (xad X)) [])) Γ dX0_init_0 0 rfl ?_
  refine A_obj (G := gX G 0 0 (PicK 0 (xUp X (xad X)) [])) Γ q91 (by show 1 ≤ (gR G).frames; rw [hR]; decide) (by show 20 ≤ (gR G).locals; rw [hR]; decide) (Nat.le_of_ble_eq_true rfl) dX0_init_1 ?_
  generalize xad X = ad
  refine A_aload_n (G := gX G 0 0 (PicK 0 (xUp X ad) [])) Γ dX0_init_4 0 rfl ?_
  refine A_bipush (G := gX G 0 0 (PicK 0 (xUp X ad) [])) (v := 6) Γ dX0_init_5 (by decide) ?_
  refine K_new (c := 0) (s := 0) (t := 0) (at_ := .int) (N := 6) (k := 1) Γ Κ (fun _ => rfl) (by decide) (by decide) q101 ⟨rfl, rfl⟩ rfl rfl q291 rfl rfl (fun h => h) (by decide) (by decide) (by decide) (by rw [hR]; decide) (by rw [hR]; decide) dX0_init_7 dX0_init_9 (fun ad => ?_)
  refine A_aload_n (G := gX G 1 6 (PicK 0 (xUp X ad) [1])) Γ dX0_init_12 0 rfl ?_
  refine A_lconst (G := gX G 1 6 (PicK 0 (xUp X ad) [1])) (v := 1) Γ dX0_init_13 (by decide) ?_
  refine K_put (σ1 := (sJ st0 4 1)) Γ Κ (k := 4) (by decide) q104 rfl rfl rfl rfl rfl rfl (fun Y j hj => fv_sJ hj) (fun _ => rfl) (fun _ _ => rfl) dX0_init_14 ?_
  refine A_aload_n (G := gX G 1 6 (PicK 0 (xUp X ad) [1])) Γ dX0_init_17 0 rfl ?_
  refine A_bipush (G := gX G 1 6 (PicK 0 (xUp X ad) [1])) (v := 6) Γ dX0_init_18 (by decide) ?_
  refine K_newA (c := 1) (s := 6) (t := 4) (et := .int) (N := 6) (k := 5) Γ Κ (fun _ => rfl) (by decide) (by decide) q105 ⟨rfl, rfl⟩ rfl rfl q94 hXO.1 rfl rfl (by decide) (by decide) (by decide) (by rw [hR]; decide) (by rw [hR]; decide) dX0_init_20 dX0_init_23 (fun ad => ?_)
  refine A_aload_n (G := gX G 2 12 (PicK 0 (xUp X ad) [5, 1])) Γ dX0_init_26 0 rfl ?_
  refine A_iconst (G := gX G 2 12 (PicK 0 (xUp X ad) [5, 1])) (v := 4) Γ dX0_init_27 (by decide) ?_
  refine K_newA (c := 2) (s := 12) (t := 5) (et := .byte) (N := 4) (k := 6) Γ Κ (fun _ => rfl) (by decide) (by decide) q106 ⟨rfl, rfl⟩ rfl rfl q96 hXO.2.1 rfl rfl (by decide) (by decide) (by decide) (by rw [hR]; decide) (by rw [hR]; decide) dX0_init_28 dX0_init_31 (fun ad => ?_)
  refine A_aload_n (G := gX G 3 16 (PicK 0 (xUp X ad) [6, 5, 1])) Γ dX0_init_34 0 rfl ?_
  refine A_bipush (G := gX G 3 16 (PicK 0 (xUp X ad) [6, 5, 1])) (v := 20) Γ dX0_init_35 (by decide) ?_
  refine K_new (c := 3) (s := 16) (t := 0) (at_ := .int) (N := 20) (k := 8) Γ Κ (fun _ => rfl) (by decide) (by decide) q108 ⟨rfl, rfl⟩ rfl rfl q291 rfl rfl (fun h => h) (by decide) (by decide) (by decide) (by rw [hR]; decide) (by rw [hR]; decide) dX0_init_37 dX0_init_39 (fun ad => ?_)
  refine A_aload_n (G := gX G 4 36 (PicK 0 (xUp X ad) [8, 6, 5, 1])) Γ dX0_init_42 0 rfl ?_
  refine A_bipush (G := gX G 4 36 (PicK 0 (xUp X ad) [8, 6, 5, 1])) (v := 20) Γ dX0_init_43 (by decide) ?_
  refine K_new (c := 4) (s := 36) (t := 0) (at_ := .int) (N := 20) (k := 9) Γ Κ (fun _ => rfl) (by decide) (by decide) q109 ⟨rfl, rfl⟩ rfl rfl q291 rfl rfl (fun h => h) (by decide) (by decide) (by decide) (by rw [hR]; decide) (by rw [hR]; decide) dX0_init_45 dX0_init_47 (fun ad => ?_)
  refine A_aload_n (G := gX G 5 56 (PicK 0 (xUp X ad) [9, 8, 6, 5, 1])) Γ dX0_init_50 0 rfl ?_
  refine A_bipush (G := gX G 5 56 (PicK 0 (xUp X ad) [9, 8, 6, 5, 1])) (v := 20) Γ dX0_init_51 (by decide) ?_
  refine K_new (c := 5) (s := 56) (t := 0) (at_ := .int) (N := 20) (k := 10) Γ Κ (fun _ => rfl) (by decide) (by decide) q110 ⟨rfl, rfl⟩ rfl rfl q291 rfl rfl (fun h => h) (by decide) (by decide) (by decide) (by rw [hR]; decide) (by rw [hR]; decide) dX0_init_53 dX0_init_55 (fun ad => ?_)
  refine A_aload_n (G := gX G 6 76 (PicK 0 (xUp X ad) [10, 9, 8, 6, 5, 1])) Γ dX0_init_58 0 rfl ?_
  refine A_bipush (G := gX G 6 76 (PicK 0 (xUp X ad) [10, 9, 8, 6, 5, 1])) (v := 64) Γ dX0_init_59 (by decide) ?_
  refine K_new (c := 6) (s := 76) (t := 0) (at_ := .int) (N := 64) (k := 12) Γ Κ (fun _ => rfl) (by decide) (by decide) q113 ⟨rfl, rfl⟩ rfl rfl q291 rfl rfl (fun h => h) (by decide) (by decide) (by decide) (by rw [hR]; decide) (by rw [hR]; decide) dX0_init_61 dX0_init_63 (fun ad => ?_)
  refine A_aload_n (G := gX G 7 140 (PicK 0 (xUp X ad) [12, 10, 9, 8, 6, 5, 1])) Γ dX0_init_66 0 rfl ?_
  refine A_bipush (G := gX G 7 140 (PicK 0 (xUp X ad) [12, 10, 9, 8, 6, 5, 1])) (v := 64) Γ dX0_init_67 (by decide) ?_
  refine K_new (c := 7) (s := 140) (t := 0) (at_ := .int) (N := 64) (k := 13) Γ Κ (fun _ => rfl) (by decide) (by decide) q114 ⟨rfl, rfl⟩ rfl rfl q291 rfl rfl (fun h => h) (by decide) (by decide) (by decide) (by rw [hR]; decide) (by rw [hR]; decide) dX0_init_69 dX0_init_71 (fun ad => ?_)
  refine A_aload_n (G := gX G 8 204 (PicK 0 (xUp X ad) [13, 12, 10, 9, 8, 6, 5, 1])) Γ dX0_init_74 0 rfl ?_
  refine A_bipush (G := gX G 8 204 (PicK 0 (xUp X ad) [13, 12, 10, 9, 8, 6, 5, 1])) (v := 64) Γ dX0_init_75 (by decide) ?_
  refine K_new (c := 8) (s := 204) (t := 0) (at_ := .int) (N := 64) (k := 14) Γ Κ (fun _ => rfl) (by decide) (by decide) q115 ⟨rfl, rfl⟩ rfl rfl q291 rfl rfl (fun h => h) (by decide) (by decide) (by decide) (by rw [hR]; decide) (by rw [hR]; decide) dX0_init_77 dX0_init_79 (fun ad => ?_)
  refine A_aload_n (G := gX G 9 268 (PicK 0 (xUp X ad) [14, 13, 12, 10, 9, 8, 6, 5, 1])) Γ dX0_init_82 0 rfl ?_
  refine A_bipush (G := gX G 9 268 (PicK 0 (xUp X ad) [14, 13, 12, 10, 9, 8, 6, 5, 1])) (v := 64) Γ dX0_init_83 (by decide) ?_
  refine K_new (c := 9) (s := 268) (t := 0) (at_ := .int) (N := 64) (k := 15) Γ Κ (fun _ => rfl) (by decide) (by decide) q116 ⟨rfl, rfl⟩ rfl rfl q291 rfl rfl (fun h => h) (by decide) (by decide) (by decide) (by rw [hR]; decide) (by rw [hR]; decide) dX0_init_85 dX0_init_87 (fun ad => ?_)
  refine A_aload_n (G := gX G 10 332 (PicK 0 (xUp X ad) [15, 14, 13, 12, 10, 9, 8, 6, 5, 1])) Γ dX0_init_90 0 rfl ?_
  refine A_bipush (G := gX G 10 332 (PicK 0 (xUp X ad) [15, 14, 13, 12, 10, 9, 8, 6, 5, 1])) (v := 8) Γ dX0_init_91 (by decide) ?_
  refine K_new (c := 10) (s := 332) (t := 0) (at_ := .int) (N := 8) (k := 16) Γ Κ (fun _ => rfl) (by decide) (by decide) q117 ⟨rfl, rfl⟩ rfl rfl q291 rfl rfl (fun h => h) (by decide) (by decide) (by decide) (by rw [hR]; decide) (by rw [hR]; decide) dX0_init_93 dX0_init_95 (fun ad => ?_)
  refine A_aload_n (G := gX G 11 340 (PicK 0 (xUp X ad) [16, 15, 14, 13, 12, 10, 9, 8, 6, 5, 1])) Γ dX0_init_98 0 rfl ?_
  refine A_bipush (G := gX G 11 340 (PicK 0 (xUp X ad) [16, 15, 14, 13, 12, 10, 9, 8, 6, 5, 1])) (v := 8) Γ dX0_init_99 (by decide) ?_
  refine K_new (c := 11) (s := 340) (t := 1) (at_ := .boolean) (N := 8) (k := 17) Γ Κ (fun _ => rfl) (by decide) (by decide) q118 ⟨rfl, rfl⟩ rfl rfl q292 rfl rfl (fun h => h) (by decide) (by decide) (by decide) (by rw [hR]; decide) (by rw [hR]; decide) dX0_init_101 dX0_init_103 (fun ad => ?_)
  refine A_aload_n (G := gX G 12 348 (PicK 0 (xUp X ad) [17, 16, 15, 14, 13, 12, 10, 9, 8, 6, 5, 1])) Γ dX0_init_106 0 rfl ?_
  refine A_bipush (G := gX G 12 348 (PicK 0 (xUp X ad) [17, 16, 15, 14, 13, 12, 10, 9, 8, 6, 5, 1])) (v := 12) Γ dX0_init_107 (by decide) ?_
  refine K_newO (c := 12) (s := 348) (t := 6) (C := RX2) (N := 12) (k := 18) Γ Κ (fun _ => rfl) (by decide) (by decide) q119 ⟨rfl, rfl⟩ rfl rfl q98 hXO.2.2 rfl rfl (by decide) (by decide) (by decide) (by rw [hR]; decide) (by rw [hR]; decide) dX0_init_109 dX0_init_112 (fun ad => ?_)
  refine A_aload_n (G := gX G 13 360 (PicK 0 (xUp X ad) [18, 17, 16, 15, 14, 13, 12, 10, 9, 8, 6, 5, 1])) Γ dX0_init_115 0 rfl ?_
  refine A_sipush (G := gX G 13 360 (PicK 0 (xUp X ad) [18, 17, 16, 15, 14, 13, 12, 10, 9, 8, 6, 5, 1])) (v := 20000) Γ dX0_init_116 (by decide) ?_
  refine K_put (σ1 := (sI (sJ st0 4 1) 20 20000)) Γ Κ (k := 20) (by decide) q121 rfl rfl rfl rfl rfl rfl (fun Y j hj => fv_sI hj) (fun _ => rfl) (fun _ _ => rfl) dX0_init_119 ?_
  refine A_aload_n (G := gX G 13 360 (PicK 0 (xUp X ad) [18, 17, 16, 15, 14, 13, 12, 10, 9, 8, 6, 5, 1])) Γ dX0_init_122 0 rfl ?_
  refine A_sipush (G := gX G 13 360 (PicK 0 (xUp X ad) [18, 17, 16, 15, 14, 13, 12, 10, 9, 8, 6, 5, 1])) (v := 20000) Γ dX0_init_123 (by decide) ?_
  refine K_put (σ1 := (sI (sI (sJ st0 4 1) 20 20000) 21 20000)) Γ Κ (k := 21) (by decide) q123 rfl rfl rfl rfl rfl rfl (fun Y j hj => fv_sI hj) (fun _ => rfl) (fun _ _ => rfl) dX0_init_126 ?_
  refine A_aload_n (G := gX G 13 360 (PicK 0 (xUp X ad) [18, 17, 16, 15, 14, 13, 12, 10, 9, 8, 6, 5, 1])) Γ dX0_init_129 0 rfl ?_
  refine A_bipush (G := gX G 13 360 (PicK 0 (xUp X ad) [18, 17, 16, 15, 14, 13, 12, 10, 9, 8, 6, 5, 1])) (v := 60) Γ dX0_init_130 (by decide) ?_
  refine K_new (c := 13) (s := 360) (t := 0) (at_ := .int) (N := 60) (k := 23) Γ Κ (fun _ => rfl) (by decide) (by decide) q126 ⟨rfl, rfl⟩ rfl rfl q291 rfl rfl (fun h => h) (by decide) (by decide) (by decide) (by rw [hR]; decide) (by rw [hR]; decide) dX0_init_132 dX0_init_134 (fun ad => ?_)
  refine A_aload_n (G := gX G 14 420 (PicK 0 (xUp X ad) [23, 18, 17, 16, 15, 14, 13, 12, 10, 9, 8, 6, 5, 1])) Γ dX0_init_137 0 rfl ?_
  refine A_bipush (G := gX G 14 420 (PicK 0 (xUp X ad) [23, 18, 17, 16, 15, 14, 13, 12, 10, 9, 8, 6, 5, 1])) (v := 60) Γ dX0_init_138 (by decide) ?_
  refine K_new (c := 14) (s := 420) (t := 0) (at_ := .int) (N := 60) (k := 24) Γ Κ (fun _ => rfl) (by decide) (by decide) q127 ⟨rfl, rfl⟩ rfl rfl q291 rfl rfl (fun h => h) (by decide) (by decide) (by decide) (by rw [hR]; decide) (by rw [hR]; decide) dX0_init_140 dX0_init_142 (fun ad => ?_)
  refine A_aload_n (G := gX G 15 480 (PicK 0 (xUp X ad) [24, 23, 18, 17, 16, 15, 14, 13, 12, 10, 9, 8, 6, 5, 1])) Γ dX0_init_145 0 rfl ?_
  refine A_bipush (G := gX G 15 480 (PicK 0 (xUp X ad) [24, 23, 18, 17, 16, 15, 14, 13, 12, 10, 9, 8, 6, 5, 1])) (v := 60) Γ dX0_init_146 (by decide) ?_
  refine K_new (c := 15) (s := 480) (t := 0) (at_ := .int) (N := 60) (k := 25) Γ Κ (fun _ => rfl) (by decide) (by decide) q129 ⟨rfl, rfl⟩ rfl rfl q291 rfl rfl (fun h => h) (by decide) (by decide) (by decide) (by rw [hR]; decide) (by rw [hR]; decide) dX0_init_148 dX0_init_150 (fun ad => ?_)
  refine A_aload_n (G := gX G 16 540 (PicK 0 (xUp X ad) [25, 24, 23, 18, 17, 16, 15, 14, 13, 12, 10, 9, 8, 6, 5, 1])) Γ dX0_init_153 0 rfl ?_
  refine A_bipush (G := gX G 16 540 (PicK 0 (xUp X ad) [25, 24, 23, 18, 17, 16, 15, 14, 13, 12, 10, 9, 8, 6, 5, 1])) (v := 60) Γ dX0_init_154 (by decide) ?_
  refine K_new (c := 16) (s := 540) (t := 0) (at_ := .int) (N := 60) (k := 26) Γ Κ (fun _ => rfl) (by decide) (by decide) q130 ⟨rfl, rfl⟩ rfl rfl q291 rfl rfl (fun h => h) (by decide) (by decide) (by decide) (by rw [hR]; decide) (by rw [hR]; decide) dX0_init_156 dX0_init_158 (fun ad => ?_)
  refine A_aload_n (G := gX G 17 600 (PicK 0 (xUp X ad) [26, 25, 24, 23, 18, 17, 16, 15, 14, 13, 12, 10, 9, 8, 6, 5, 1])) Γ dX0_init_161 0 rfl ?_
  refine A_bipush (G := gX G 17 600 (PicK 0 (xUp X ad) [26, 25, 24, 23, 18, 17, 16, 15, 14, 13, 12, 10, 9, 8, 6, 5, 1])) (v := 60) Γ dX0_init_162 (by decide) ?_
  refine K_new (c := 17) (s := 600) (t := 0) (at_ := .int) (N := 60) (k := 27) Γ Κ (fun _ => rfl) (by decide) (by decide) q131 ⟨rfl, rfl⟩ rfl rfl q291 rfl rfl (fun h => h) (by decide) (by decide) (by decide) (by rw [hR]; decide) (by rw [hR]; decide) dX0_init_164 dX0_init_166 (fun ad => ?_)
  refine A_aload_n (G := gX G 18 660 (PicK 0 (xUp X ad) [27, 26, 25, 24, 23, 18, 17, 16, 15, 14, 13, 12, 10, 9, 8, 6, 5, 1])) Γ dX0_init_169 0 rfl ?_
  refine A_bipush (G := gX G 18 660 (PicK 0 (xUp X ad) [27, 26, 25, 24, 23, 18, 17, 16, 15, 14, 13, 12, 10, 9, 8, 6, 5, 1])) (v := 6) Γ dX0_init_170 (by decide) ?_
  refine K_new (c := 18) (s := 660) (t := 0) (at_ := .int) (N := 6) (k := 28) Γ Κ (fun _ => rfl) (by decide) (by decide) q132 ⟨rfl, rfl⟩ rfl rfl q291 rfl rfl (fun h => h) (by decide) (by decide) (by decide) (by rw [hR]; decide) (by rw [hR]; decide) dX0_init_172 dX0_init_174 (fun ad => ?_)
  refine A_aload_n (G := gX G 19 666 (PicK 0 (xUp X ad) [28, 27, 26, 25, 24, 23, 18, 17, 16, 15, 14, 13, 12, 10, 9, 8, 6, 5, 1])) Γ dX0_init_177 0 rfl ?_
  refine A_bipush (G := gX G 19 666 (PicK 0 (xUp X ad) [28, 27, 26, 25, 24, 23, 18, 17, 16, 15, 14, 13, 12, 10, 9, 8, 6, 5, 1])) (v := 6) Γ dX0_init_178 (by decide) ?_
  refine K_new (c := 19) (s := 666) (t := 0) (at_ := .int) (N := 6) (k := 29) Γ Κ (fun _ => rfl) (by decide) (by decide) q133 ⟨rfl, rfl⟩ rfl rfl q291 rfl rfl (fun h => h) (by decide) (by decide) (by decide) (by rw [hR]; decide) (by rw [hR]; decide) dX0_init_180 dX0_init_182 (fun ad => ?_)
  refine A_aload_n (G := gX G 20 672 (PicK 0 (xUp X ad) [29, 28, 27, 26, 25, 24, 23, 18, 17, 16, 15, 14, 13, 12, 10, 9, 8, 6, 5, 1])) Γ dX0_init_185 0 rfl ?_
  refine A_bipush (G := gX G 20 672 (PicK 0 (xUp X ad) [29, 28, 27, 26, 25, 24, 23, 18, 17, 16, 15, 14, 13, 12, 10, 9, 8, 6, 5, 1])) (v := 6) Γ dX0_init_186 (by decide) ?_
  refine K_new (c := 20) (s := 672) (t := 0) (at_ := .int) (N := 6) (k := 30) Γ Κ (fun _ => rfl) (by decide) (by decide) q134 ⟨rfl, rfl⟩ rfl rfl q291 rfl rfl (fun h => h) (by decide) (by decide) (by decide) (by rw [hR]; decide) (by rw [hR]; decide) dX0_init_188 dX0_init_190 (fun ad => ?_)
  refine A_aload_n (G := gX G 21 678 (PicK 0 (xUp X ad) [30, 29, 28, 27, 26, 25, 24, 23, 18, 17, 16, 15, 14, 13, 12, 10, 9, 8, 6, 5, 1])) Γ dX0_init_193 0 rfl ?_
  refine A_bipush (G := gX G 21 678 (PicK 0 (xUp X ad) [30, 29, 28, 27, 26, 25, 24, 23, 18, 17, 16, 15, 14, 13, 12, 10, 9, 8, 6, 5, 1])) (v := 6) Γ dX0_init_194 (by decide) ?_
  refine K_new (c := 21) (s := 678) (t := 0) (at_ := .int) (N := 6) (k := 31) Γ Κ (fun _ => rfl) (by decide) (by decide) q135 ⟨rfl, rfl⟩ rfl rfl q291 rfl rfl (fun h => h) (by decide) (by decide) (by decide) (by rw [hR]; decide) (by rw [hR]; decide) dX0_init_196 dX0_init_198 (fun ad => ?_)
  refine A_aload_n (G := gX G 22 684 (PicK 0 (xUp X ad) [31, 30, 29, 28, 27, 26, 25, 24, 23, 18, 17, 16, 15, 14, 13, 12, 10, 9, 8, 6, 5, 1])) Γ dX0_init_201 0 rfl ?_
  refine A_bipush (G := gX G 22 684 (PicK 0 (xUp X ad) [31, 30, 29, 28, 27, 26, 25, 24, 23, 18, 17, 16, 15, 14, 13, 12, 10, 9, 8, 6, 5, 1])) (v := 6) Γ dX0_init_202 (by decide) ?_
  refine K_new (c := 22) (s := 684) (t := 0) (at_ := .int) (N := 6) (k := 32) Γ Κ (fun _ => rfl) (by decide) (by decide) q136 ⟨rfl, rfl⟩ rfl rfl q291 rfl rfl (fun h => h) (by decide) (by decide) (by decide) (by rw [hR]; decide) (by rw [hR]; decide) dX0_init_204 dX0_init_206 (fun ad => ?_)
  refine A_aload_n (G := gX G 23 690 (PicK 0 (xUp X ad) [32, 31, 30, 29, 28, 27, 26, 25, 24, 23, 18, 17, 16, 15, 14, 13, 12, 10, 9, 8, 6, 5, 1])) Γ dX0_init_209 0 rfl ?_
  refine A_bipush (G := gX G 23 690 (PicK 0 (xUp X ad) [32, 31, 30, 29, 28, 27, 26, 25, 24, 23, 18, 17, 16, 15, 14, 13, 12, 10, 9, 8, 6, 5, 1])) (v := 20) Γ dX0_init_210 (by decide) ?_
  refine K_new (c := 23) (s := 690) (t := 0) (at_ := .int) (N := 20) (k := 34) Γ Κ (fun _ => rfl) (by decide) (by decide) q138 ⟨rfl, rfl⟩ rfl rfl q291 rfl rfl (fun h => h) (by decide) (by decide) (by decide) (by rw [hR]; decide) (by rw [hR]; decide) dX0_init_212 dX0_init_214 (fun ad => ?_)
  refine A_aload_n (G := gX G 24 710 (PicK 0 (xUp X ad) [34, 32, 31, 30, 29, 28, 27, 26, 25, 24, 23, 18, 17, 16, 15, 14, 13, 12, 10, 9, 8, 6, 5, 1])) Γ dX0_init_217 0 rfl ?_
  refine A_bipush (G := gX G 24 710 (PicK 0 (xUp X ad) [34, 32, 31, 30, 29, 28, 27, 26, 25, 24, 23, 18, 17, 16, 15, 14, 13, 12, 10, 9, 8, 6, 5, 1])) (v := 20) Γ dX0_init_218 (by decide) ?_
  refine K_new (c := 24) (s := 710) (t := 0) (at_ := .int) (N := 20) (k := 35) Γ Κ (fun _ => rfl) (by decide) (by decide) q139 ⟨rfl, rfl⟩ rfl rfl q291 rfl rfl (fun h => h) (by decide) (by decide) (by decide) (by rw [hR]; decide) (by rw [hR]; decide) dX0_init_220 dX0_init_222 (fun ad => ?_)
  refine A_aload_n (G := gX G 25 730 (PicK 0 (xUp X ad) [35, 34, 32, 31, 30, 29, 28, 27, 26, 25, 24, 23, 18, 17, 16, 15, 14, 13, 12, 10, 9, 8, 6, 5, 1])) Γ dX0_init_225 0 rfl ?_
  refine A_bipush (G := gX G 25 730 (PicK 0 (xUp X ad) [35, 34, 32, 31, 30, 29, 28, 27, 26, 25, 24, 23, 18, 17, 16, 15, 14, 13, 12, 10, 9, 8, 6, 5, 1])) (v := 20) Γ dX0_init_226 (by decide) ?_
  refine K_new (c := 25) (s := 730) (t := 0) (at_ := .int) (N := 20) (k := 36) Γ Κ (fun _ => rfl) (by decide) (by decide) q140 ⟨rfl, rfl⟩ rfl rfl q291 rfl rfl (fun h => h) (by decide) (by decide) (by decide) (by rw [hR]; decide) (by rw [hR]; decide) dX0_init_228 dX0_init_230 (fun ad => ?_)
  refine A_aload_n (G := gX G 26 750 (PicK 0 (xUp X ad) [36, 35, 34, 32, 31, 30, 29, 28, 27, 26, 25, 24, 23, 18, 17, 16, 15, 14, 13, 12, 10, 9, 8, 6, 5, 1])) Γ dX0_init_233 0 rfl ?_
  refine A_sipush (G := gX G 26 750 (PicK 0 (xUp X ad) [36, 35, 34, 32, 31, 30, 29, 28, 27, 26, 25, 24, 23, 18, 17, 16, 15, 14, 13, 12, 10, 9, 8, 6, 5, 1])) (v := 400) Γ dX0_init_234 (by decide) ?_
  refine K_new (c := 26) (s := 750) (t := 0) (at_ := .int) (N := 400) (k := 37) Γ Κ (fun _ => rfl) (by decide) (by decide) q141 ⟨rfl, rfl⟩ rfl rfl q291 rfl rfl (fun h => h) (by decide) (by decide) (by decide) (by rw [hR]; decide) (by rw [hR]; decide) dX0_init_237 dX0_init_239 (fun ad => ?_)
  refine A_aload_n (G := gX G 27 1150 (PicK 0 (xUp X ad) [37, 36, 35, 34, 32, 31, 30, 29, 28, 27, 26, 25, 24, 23, 18, 17, 16, 15, 14, 13, 12, 10, 9, 8, 6, 5, 1])) Γ dX0_init_242 0 rfl ?_
  refine A_sipush (G := gX G 27 1150 (PicK 0 (xUp X ad) [37, 36, 35, 34, 32, 31, 30, 29, 28, 27, 26, 25, 24, 23, 18, 17, 16, 15, 14, 13, 12, 10, 9, 8, 6, 5, 1])) (v := 400) Γ dX0_init_243 (by decide) ?_
  refine K_new (c := 27) (s := 1150) (t := 0) (at_ := .int) (N := 400) (k := 38) Γ Κ (fun _ => rfl) (by decide) (by decide) q142 ⟨rfl, rfl⟩ rfl rfl q291 rfl rfl (fun h => h) (by decide) (by decide) (by decide) (by rw [hR]; decide) (by rw [hR]; decide) dX0_init_246 dX0_init_248 (fun ad => ?_)
  refine A_aload_n (G := gX G 28 1550 (PicK 0 (xUp X ad) [38, 37, 36, 35, 34, 32, 31, 30, 29, 28, 27, 26, 25, 24, 23, 18, 17, 16, 15, 14, 13, 12, 10, 9, 8, 6, 5, 1])) Γ dX0_init_251 0 rfl ?_
  refine A_sipush (G := gX G 28 1550 (PicK 0 (xUp X ad) [38, 37, 36, 35, 34, 32, 31, 30, 29, 28, 27, 26, 25, 24, 23, 18, 17, 16, 15, 14, 13, 12, 10, 9, 8, 6, 5, 1])) (v := 400) Γ dX0_init_252 (by decide) ?_
  refine K_new (c := 28) (s := 1550) (t := 0) (at_ := .int) (N := 400) (k := 39) Γ Κ (fun _ => rfl) (by decide) (by decide) q143 ⟨rfl, rfl⟩ rfl rfl q291 rfl rfl (fun h => h) (by decide) (by decide) (by decide) (by rw [hR]; decide) (by rw [hR]; decide) dX0_init_255 dX0_init_257 (fun ad => ?_)
  refine A_aload_n (G := gX G 29 1950 (PicK 0 (xUp X ad) [39, 38, 37, 36, 35, 34, 32, 31, 30, 29, 28, 27, 26, 25, 24, 23, 18, 17, 16, 15, 14, 13, 12, 10, 9, 8, 6, 5, 1])) Γ dX0_init_260 0 rfl ?_
  refine A_bipush (G := gX G 29 1950 (PicK 0 (xUp X ad) [39, 38, 37, 36, 35, 34, 32, 31, 30, 29, 28, 27, 26, 25, 24, 23, 18, 17, 16, 15, 14, 13, 12, 10, 9, 8, 6, 5, 1])) (v := 6) Γ dX0_init_261 (by decide) ?_
  refine K_new (c := 29) (s := 1950) (t := 0) (at_ := .int) (N := 6) (k := 43) Γ Κ (fun _ => rfl) (by decide) (by decide) q147 ⟨rfl, rfl⟩ rfl rfl q291 rfl rfl (fun h => h) (by decide) (by decide) (by decide) (by rw [hR]; decide) (by rw [hR]; decide) dX0_init_263 dX0_init_265 (fun ad => ?_)
  refine A_aload_n (G := gX G 30 1956 (PicK 0 (xUp X ad) [43, 39, 38, 37, 36, 35, 34, 32, 31, 30, 29, 28, 27, 26, 25, 24, 23, 18, 17, 16, 15, 14, 13, 12, 10, 9, 8, 6, 5, 1])) Γ dX0_init_268 0 rfl ?_
  refine A_bipush (G := gX G 30 1956 (PicK 0 (xUp X ad) [43, 39, 38, 37, 36, 35, 34, 32, 31, 30, 29, 28, 27, 26, 25, 24, 23, 18, 17, 16, 15, 14, 13, 12, 10, 9, 8, 6, 5, 1])) (v := 6) Γ dX0_init_269 (by decide) ?_
  refine K_new (c := 30) (s := 1956) (t := 0) (at_ := .int) (N := 6) (k := 44) Γ Κ (fun _ => rfl) (by decide) (by decide) q148 ⟨rfl, rfl⟩ rfl rfl q291 rfl rfl (fun h => h) (by decide) (by decide) (by decide) (by rw [hR]; decide) (by rw [hR]; decide) dX0_init_271 dX0_init_273 (fun ad => ?_)
  refine A_aload_n (G := gX G 31 1962 (PicK 0 (xUp X ad) [44, 43, 39, 38, 37, 36, 35, 34, 32, 31, 30, 29, 28, 27, 26, 25, 24, 23, 18, 17, 16, 15, 14, 13, 12, 10, 9, 8, 6, 5, 1])) Γ dX0_init_276 0 rfl ?_
  refine A_bipush (G := gX G 31 1962 (PicK 0 (xUp X ad) [44, 43, 39, 38, 37, 36, 35, 34, 32, 31, 30, 29, 28, 27, 26, 25, 24, 23, 18, 17, 16, 15, 14, 13, 12, 10, 9, 8, 6, 5, 1])) (v := 6) Γ dX0_init_277 (by decide) ?_
  refine K_new (c := 31) (s := 1962) (t := 0) (at_ := .int) (N := 6) (k := 45) Γ Κ (fun _ => rfl) (by decide) (by decide) q149 ⟨rfl, rfl⟩ rfl rfl q291 rfl rfl (fun h => h) (by decide) (by decide) (by decide) (by rw [hR]; decide) (by rw [hR]; decide) dX0_init_279 dX0_init_281 (fun ad => ?_)
  refine A_aload_n (G := gX G 32 1968 (PicK 0 (xUp X ad) [45, 44, 43, 39, 38, 37, 36, 35, 34, 32, 31, 30, 29, 28, 27, 26, 25, 24, 23, 18, 17, 16, 15, 14, 13, 12, 10, 9, 8, 6, 5, 1])) Γ dX0_init_284 0 rfl ?_
  refine A_bipush (G := gX G 32 1968 (PicK 0 (xUp X ad) [45, 44, 43, 39, 38, 37, 36, 35, 34, 32, 31, 30, 29, 28, 27, 26, 25, 24, 23, 18, 17, 16, 15, 14, 13, 12, 10, 9, 8, 6, 5, 1])) (v := 8) Γ dX0_init_285 (by decide) ?_
  refine K_new (c := 32) (s := 1968) (t := 0) (at_ := .int) (N := 8) (k := 48) Γ Κ (fun _ => rfl) (by decide) (by decide) q152 ⟨rfl, rfl⟩ rfl rfl q291 rfl rfl (fun h => h) (by decide) (by decide) (by decide) (by rw [hR]; decide) (by rw [hR]; decide) dX0_init_287 dX0_init_289 (fun ad => ?_)
  refine A_aload_n (G := gX G 33 1976 (PicK 0 (xUp X ad) [48, 45, 44, 43, 39, 38, 37, 36, 35, 34, 32, 31, 30, 29, 28, 27, 26, 25, 24, 23, 18, 17, 16, 15, 14, 13, 12, 10, 9, 8, 6, 5, 1])) Γ dX0_init_292 0 rfl ?_
  refine A_bipush (G := gX G 33 1976 (PicK 0 (xUp X ad) [48, 45, 44, 43, 39, 38, 37, 36, 35, 34, 32, 31, 30, 29, 28, 27, 26, 25, 24, 23, 18, 17, 16, 15, 14, 13, 12, 10, 9, 8, 6, 5, 1])) (v := 8) Γ dX0_init_293 (by decide) ?_
  refine K_new (c := 33) (s := 1976) (t := 0) (at_ := .int) (N := 8) (k := 49) Γ Κ (fun _ => rfl) (by decide) (by decide) q153 ⟨rfl, rfl⟩ rfl rfl q291 rfl rfl (fun h => h) (by decide) (by decide) (by decide) (by rw [hR]; decide) (by rw [hR]; decide) dX0_init_295 dX0_init_297 (fun ad => ?_)
  refine A_aload_n (G := gX G 34 1984 (PicK 0 (xUp X ad) [49, 48, 45, 44, 43, 39, 38, 37, 36, 35, 34, 32, 31, 30, 29, 28, 27, 26, 25, 24, 23, 18, 17, 16, 15, 14, 13, 12, 10, 9, 8, 6, 5, 1])) Γ dX0_init_300 0 rfl ?_
  refine A_bipush (G := gX G 34 1984 (PicK 0 (xUp X ad) [49, 48, 45, 44, 43, 39, 38, 37, 36, 35, 34, 32, 31, 30, 29, 28, 27, 26, 25, 24, 23, 18, 17, 16, 15, 14, 13, 12, 10, 9, 8, 6, 5, 1])) (v := 8) Γ dX0_init_301 (by decide) ?_
  refine K_new (c := 34) (s := 1984) (t := 0) (at_ := .int) (N := 8) (k := 52) Γ Κ (fun _ => rfl) (by decide) (by decide) q156 ⟨rfl, rfl⟩ rfl rfl q291 rfl rfl (fun h => h) (by decide) (by decide) (by decide) (by rw [hR]; decide) (by rw [hR]; decide) dX0_init_303 dX0_init_305 (fun ad => ?_)
  refine A_aload_n (G := gX G 35 1992 (PicK 0 (xUp X ad) [52, 49, 48, 45, 44, 43, 39, 38, 37, 36, 35, 34, 32, 31, 30, 29, 28, 27, 26, 25, 24, 23, 18, 17, 16, 15, 14, 13, 12, 10, 9, 8, 6, 5, 1])) Γ dX0_init_308 0 rfl ?_
  refine A_bipush (G := gX G 35 1992 (PicK 0 (xUp X ad) [52, 49, 48, 45, 44, 43, 39, 38, 37, 36, 35, 34, 32, 31, 30, 29, 28, 27, 26, 25, 24, 23, 18, 17, 16, 15, 14, 13, 12, 10, 9, 8, 6, 5, 1])) (v := 8) Γ dX0_init_309 (by decide) ?_
  refine K_new (c := 35) (s := 1992) (t := 0) (at_ := .int) (N := 8) (k := 53) Γ Κ (fun _ => rfl) (by decide) (by decide) q157 ⟨rfl, rfl⟩ rfl rfl q291 rfl rfl (fun h => h) (by decide) (by decide) (by decide) (by rw [hR]; decide) (by rw [hR]; decide) dX0_init_311 dX0_init_313 (fun ad => ?_)
  refine A_aload_n (G := gX G 36 2000 (PicK 0 (xUp X ad) [53, 52, 49, 48, 45, 44, 43, 39, 38, 37, 36, 35, 34, 32, 31, 30, 29, 28, 27, 26, 25, 24, 23, 18, 17, 16, 15, 14, 13, 12, 10, 9, 8, 6, 5, 1])) Γ dX0_init_316 0 rfl ?_
  refine A_bipush (G := gX G 36 2000 (PicK 0 (xUp X ad) [53, 52, 49, 48, 45, 44, 43, 39, 38, 37, 36, 35, 34, 32, 31, 30, 29, 28, 27, 26, 25, 24, 23, 18, 17, 16, 15, 14, 13, 12, 10, 9, 8, 6, 5, 1])) (v := 64) Γ dX0_init_317 (by decide) ?_
  refine K_new (c := 36) (s := 2000) (t := 0) (at_ := .int) (N := 64) (k := 54) Γ Κ (fun _ => rfl) (by decide) (by decide) q158 ⟨rfl, rfl⟩ rfl rfl q291 rfl rfl (fun h => h) (by decide) (by decide) (by decide) (by rw [hR]; decide) (by rw [hR]; decide) dX0_init_319 dX0_init_321 (fun ad => ?_)
  refine A_aload_n (G := gX G 37 2064 (PicK 0 (xUp X ad) [54, 53, 52, 49, 48, 45, 44, 43, 39, 38, 37, 36, 35, 34, 32, 31, 30, 29, 28, 27, 26, 25, 24, 23, 18, 17, 16, 15, 14, 13, 12, 10, 9, 8, 6, 5, 1])) Γ dX0_init_324 0 rfl ?_
  refine A_bipush (G := gX G 37 2064 (PicK 0 (xUp X ad) [54, 53, 52, 49, 48, 45, 44, 43, 39, 38, 37, 36, 35, 34, 32, 31, 30, 29, 28, 27, 26, 25, 24, 23, 18, 17, 16, 15, 14, 13, 12, 10, 9, 8, 6, 5, 1])) (v := 64) Γ dX0_init_325 (by decide) ?_
  refine K_new (c := 37) (s := 2064) (t := 0) (at_ := .int) (N := 64) (k := 55) Γ Κ (fun _ => rfl) (by decide) (by decide) q159 ⟨rfl, rfl⟩ rfl rfl q291 rfl rfl (fun h => h) (by decide) (by decide) (by decide) (by rw [hR]; decide) (by rw [hR]; decide) dX0_init_327 dX0_init_329 (fun ad => ?_)
  refine A_aload_n (G := gX G 38 2128 (PicK 0 (xUp X ad) [55, 54, 53, 52, 49, 48, 45, 44, 43, 39, 38, 37, 36, 35, 34, 32, 31, 30, 29, 28, 27, 26, 25, 24, 23, 18, 17, 16, 15, 14, 13, 12, 10, 9, 8, 6, 5, 1])) Γ dX0_init_332 0 rfl ?_
  refine A_bipush (G := gX G 38 2128 (PicK 0 (xUp X ad) [55, 54, 53, 52, 49, 48, 45, 44, 43, 39, 38, 37, 36, 35, 34, 32, 31, 30, 29, 28, 27, 26, 25, 24, 23, 18, 17, 16, 15, 14, 13, 12, 10, 9, 8, 6, 5, 1])) (v := 16) Γ dX0_init_333 (by decide) ?_
  refine K_new (c := 38) (s := 2128) (t := 0) (at_ := .int) (N := 16) (k := 56) Γ Κ (fun _ => rfl) (by decide) (by decide) q160 ⟨rfl, rfl⟩ rfl rfl q291 rfl rfl (fun h => h) (by decide) (by decide) (by decide) (by rw [hR]; decide) (by rw [hR]; decide) dX0_init_335 dX0_init_337 (fun ad => ?_)
  refine A_aload_n (G := gX G 39 2144 (PicK 0 (xUp X ad) [56, 55, 54, 53, 52, 49, 48, 45, 44, 43, 39, 38, 37, 36, 35, 34, 32, 31, 30, 29, 28, 27, 26, 25, 24, 23, 18, 17, 16, 15, 14, 13, 12, 10, 9, 8, 6, 5, 1])) Γ dX0_init_340 0 rfl ?_
  refine A_bipush (G := gX G 39 2144 (PicK 0 (xUp X ad) [56, 55, 54, 53, 52, 49, 48, 45, 44, 43, 39, 38, 37, 36, 35, 34, 32, 31, 30, 29, 28, 27, 26, 25, 24, 23, 18, 17, 16, 15, 14, 13, 12, 10, 9, 8, 6, 5, 1])) (v := 16) Γ dX0_init_341 (by decide) ?_
  refine K_new (c := 39) (s := 2144) (t := 0) (at_ := .int) (N := 16) (k := 57) Γ Κ (fun _ => rfl) (by decide) (by decide) q161 ⟨rfl, rfl⟩ rfl rfl q291 rfl rfl (fun h => h) (by decide) (by decide) (by decide) (by rw [hR]; decide) (by rw [hR]; decide) dX0_init_343 dX0_init_345 (fun ad => ?_)
  refine A_aload_n (G := gX G 40 2160 (PicK 0 (xUp X ad) [57, 56, 55, 54, 53, 52, 49, 48, 45, 44, 43, 39, 38, 37, 36, 35, 34, 32, 31, 30, 29, 28, 27, 26, 25, 24, 23, 18, 17, 16, 15, 14, 13, 12, 10, 9, 8, 6, 5, 1])) Γ dX0_init_348 0 rfl ?_
  refine A_bipush (G := gX G 40 2160 (PicK 0 (xUp X ad) [57, 56, 55, 54, 53, 52, 49, 48, 45, 44, 43, 39, 38, 37, 36, 35, 34, 32, 31, 30, 29, 28, 27, 26, 25, 24, 23, 18, 17, 16, 15, 14, 13, 12, 10, 9, 8, 6, 5, 1])) (v := 40) Γ dX0_init_349 (by decide) ?_
  refine K_new (c := 40) (s := 2160) (t := 0) (at_ := .int) (N := 40) (k := 59) Γ Κ (fun _ => rfl) (by decide) (by decide) q163 ⟨rfl, rfl⟩ rfl rfl q291 rfl rfl (fun h => h) (by decide) (by decide) (by decide) (by rw [hR]; decide) (by rw [hR]; decide) dX0_init_351 dX0_init_353 (fun ad => ?_)
  refine A_aload_n (G := gX G 41 2200 (PicK 0 (xUp X ad) [59, 57, 56, 55, 54, 53, 52, 49, 48, 45, 44, 43, 39, 38, 37, 36, 35, 34, 32, 31, 30, 29, 28, 27, 26, 25, 24, 23, 18, 17, 16, 15, 14, 13, 12, 10, 9, 8, 6, 5, 1])) Γ dX0_init_356 0 rfl ?_
  refine A_sipush (G := gX G 41 2200 (PicK 0 (xUp X ad) [59, 57, 56, 55, 54, 53, 52, 49, 48, 45, 44, 43, 39, 38, 37, 36, 35, 34, 32, 31, 30, 29, 28, 27, 26, 25, 24, 23, 18, 17, 16, 15, 14, 13, 12, 10, 9, 8, 6, 5, 1])) (v := 410) Γ dX0_init_357 (by decide) ?_
  refine K_new (c := 41) (s := 2200) (t := 0) (at_ := .int) (N := 410) (k := 60) Γ Κ (fun _ => rfl) (by decide) (by decide) q164 ⟨rfl, rfl⟩ rfl rfl q291 rfl rfl (fun h => h) (by decide) (by decide) (by decide) (by rw [hR]; decide) (by rw [hR]; decide) dX0_init_360 dX0_init_362 (fun ad => ?_)
  refine K_done (by decide) (fun _ => rfl) ?_
  have Ξ : OkX 0 (gX G 42 2610 (Pic 0 (xUp X ad))) (xUp X ad) := ⟨Κ.1, rfl, Κ.2.1, hXK⟩
  have Γ1 : Ok (gX G 42 2610 (Pic 0 (xUp X ad))) RX0 cX0_init 2 := Γ
  refine A_iconst (v := nI 0) Γ1 dX0_init_365 (by decide) ?_
  refine A_istore_n (lv' := [(1, .int (nI 0)), (0, .ref (xo X))]) Γ1 dX0_init_366 (by decide) rfl ?_
  refine A_iload_n Γ1 dX0_init_367 0 rfl ?_
  refine A_bipush (v := nI 6) Γ1 dX0_init_368 (by decide) ?_
  refine A_icmp_ge (t := 395) Γ1 dX0_init_370 (by decide) (fun w => absurd (show nI 6 ≤ nI 0 from w) (by decide)) (fun _ => ?_)
  refine A_aload_n Γ1 dX0_init_373 1 rfl ?_
  refine g0_30 (X := xUp X ad) Γ1 Ξ dX0_init_374 ?_
  refine A_iload_n Γ1 dX0_init_377 0 rfl ?_
  refine A_bipush (v := (-9)) Γ1 dX0_init_378 (by decide) ?_
  refine w0_30 (X := xUp X ad) (σ1 := sx0_1) Γ1 Ξ (wrA_nI (n := 6) (j := 0) (σ := sx0_0) (by decide) (by decide)) dX0_init_380 ?_
  refine A_aload_n Γ1 dX0_init_381 1 rfl ?_
  refine g0_43 (X := xUp X ad) Γ1 Ξ dX0_init_382 ?_
  refine A_iload_n Γ1 dX0_init_385 0 rfl ?_
  refine A_bipush (v := (-9)) Γ1 dX0_init_386 (by decide) ?_
  refine w0_43 (X := xUp X ad) (σ1 := sx0_2) Γ1 Ξ (wrA_nI (n := 6) (j := 0) (σ := sx0_1) (by decide) (by decide)) dX0_init_388 ?_
  refine A_iinc (v := nI 1) (lv' := [(1, .int (nI 1)), (0, .ref (xo X))]) Γ1 dX0_init_389 0 rfl (by decide) (by decide) rfl ?_
  refine A_goto (t := 367) Γ1 dX0_init_392 (by decide) ?_
  refine A_iload_n Γ1 dX0_init_367 0 rfl ?_
  refine A_bipush (v := nI 6) Γ1 dX0_init_368 (by decide) ?_
  refine A_icmp_ge (t := 395) Γ1 dX0_init_370 (by decide) (fun w => absurd (show nI 6 ≤ nI 1 from w) (by decide)) (fun _ => ?_)
  refine A_aload_n Γ1 dX0_init_373 1 rfl ?_
  refine g0_30 (X := xUp X ad) Γ1 Ξ dX0_init_374 ?_
  refine A_iload_n Γ1 dX0_init_377 0 rfl ?_
  refine A_bipush (v := (-9)) Γ1 dX0_init_378 (by decide) ?_
  refine w0_30 (X := xUp X ad) (σ1 := sx0_3) Γ1 Ξ (wrA_nI (n := 6) (j := 1) (σ := sx0_2) (by decide) (by decide)) dX0_init_380 ?_
  refine A_aload_n Γ1 dX0_init_381 1 rfl ?_
  refine g0_43 (X := xUp X ad) Γ1 Ξ dX0_init_382 ?_
  refine A_iload_n Γ1 dX0_init_385 0 rfl ?_
  refine A_bipush (v := (-9)) Γ1 dX0_init_386 (by decide) ?_
  refine w0_43 (X := xUp X ad) (σ1 := sx0_4) Γ1 Ξ (wrA_nI (n := 6) (j := 1) (σ := sx0_3) (by decide) (by decide)) dX0_init_388 ?_
  refine A_iinc (v := nI 2) (lv' := [(1, .int (nI 2)), (0, .ref (xo X))]) Γ1 dX0_init_389 0 rfl (by decide) (by decide) rfl ?_
  refine A_goto (t := 367) Γ1 dX0_init_392 (by decide) ?_
  refine A_iload_n Γ1 dX0_init_367 0 rfl ?_
  refine A_bipush (v := nI 6) Γ1 dX0_init_368 (by decide) ?_
  refine A_icmp_ge (t := 395) Γ1 dX0_init_370 (by decide) (fun w => absurd (show nI 6 ≤ nI 2 from w) (by decide)) (fun _ => ?_)
  refine A_aload_n Γ1 dX0_init_373 1 rfl ?_
  refine g0_30 (X := xUp X ad) Γ1 Ξ dX0_init_374 ?_
  refine A_iload_n Γ1 dX0_init_377 0 rfl ?_
  refine A_bipush (v := (-9)) Γ1 dX0_init_378 (by decide) ?_
  refine w0_30 (X := xUp X ad) (σ1 := sx0_5) Γ1 Ξ (wrA_nI (n := 6) (j := 2) (σ := sx0_4) (by decide) (by decide)) dX0_init_380 ?_
  refine A_aload_n Γ1 dX0_init_381 1 rfl ?_
  refine g0_43 (X := xUp X ad) Γ1 Ξ dX0_init_382 ?_
  refine A_iload_n Γ1 dX0_init_385 0 rfl ?_
  refine A_bipush (v := (-9)) Γ1 dX0_init_386 (by decide) ?_
  refine w0_43 (X := xUp X ad) (σ1 := sx0_6) Γ1 Ξ (wrA_nI (n := 6) (j := 2) (σ := sx0_5) (by decide) (by decide)) dX0_init_388 ?_
  refine A_iinc (v := nI 3) (lv' := [(1, .int (nI 3)), (0, .ref (xo X))]) Γ1 dX0_init_389 0 rfl (by decide) (by decide) rfl ?_
  refine A_goto (t := 367) Γ1 dX0_init_392 (by decide) ?_
  refine A_iload_n Γ1 dX0_init_367 0 rfl ?_
  refine A_bipush (v := nI 6) Γ1 dX0_init_368 (by decide) ?_
  refine A_icmp_ge (t := 395) Γ1 dX0_init_370 (by decide) (fun w => absurd (show nI 6 ≤ nI 3 from w) (by decide)) (fun _ => ?_)
  refine A_aload_n Γ1 dX0_init_373 1 rfl ?_
  refine g0_30 (X := xUp X ad) Γ1 Ξ dX0_init_374 ?_
  refine A_iload_n Γ1 dX0_init_377 0 rfl ?_
  refine A_bipush (v := (-9)) Γ1 dX0_init_378 (by decide) ?_
  refine w0_30 (X := xUp X ad) (σ1 := sx0_7) Γ1 Ξ (wrA_nI (n := 6) (j := 3) (σ := sx0_6) (by decide) (by decide)) dX0_init_380 ?_
  refine A_aload_n Γ1 dX0_init_381 1 rfl ?_
  refine g0_43 (X := xUp X ad) Γ1 Ξ dX0_init_382 ?_
  refine A_iload_n Γ1 dX0_init_385 0 rfl ?_
  refine A_bipush (v := (-9)) Γ1 dX0_init_386 (by decide) ?_
  refine w0_43 (X := xUp X ad) (σ1 := sx0_8) Γ1 Ξ (wrA_nI (n := 6) (j := 3) (σ := sx0_7) (by decide) (by decide)) dX0_init_388 ?_
  refine A_iinc (v := nI 4) (lv' := [(1, .int (nI 4)), (0, .ref (xo X))]) Γ1 dX0_init_389 0 rfl (by decide) (by decide) rfl ?_
  refine A_goto (t := 367) Γ1 dX0_init_392 (by decide) ?_
  refine A_iload_n Γ1 dX0_init_367 0 rfl ?_
  refine A_bipush (v := nI 6) Γ1 dX0_init_368 (by decide) ?_
  refine A_icmp_ge (t := 395) Γ1 dX0_init_370 (by decide) (fun w => absurd (show nI 6 ≤ nI 4 from w) (by decide)) (fun _ => ?_)
  refine A_aload_n Γ1 dX0_init_373 1 rfl ?_
  refine g0_30 (X := xUp X ad) Γ1 Ξ dX0_init_374 ?_
  refine A_iload_n Γ1 dX0_init_377 0 rfl ?_
  refine A_bipush (v := (-9)) Γ1 dX0_init_378 (by decide) ?_
  refine w0_30 (X := xUp X ad) (σ1 := sx0_9) Γ1 Ξ (wrA_nI (n := 6) (j := 4) (σ := sx0_8) (by decide) (by decide)) dX0_init_380 ?_
  refine A_aload_n Γ1 dX0_init_381 1 rfl ?_
  refine g0_43 (X := xUp X ad) Γ1 Ξ dX0_init_382 ?_
  refine A_iload_n Γ1 dX0_init_385 0 rfl ?_
  refine A_bipush (v := (-9)) Γ1 dX0_init_386 (by decide) ?_
  refine w0_43 (X := xUp X ad) (σ1 := sx0_10) Γ1 Ξ (wrA_nI (n := 6) (j := 4) (σ := sx0_9) (by decide) (by decide)) dX0_init_388 ?_
  refine A_iinc (v := nI 5) (lv' := [(1, .int (nI 5)), (0, .ref (xo X))]) Γ1 dX0_init_389 0 rfl (by decide) (by decide) rfl ?_
  refine A_goto (t := 367) Γ1 dX0_init_392 (by decide) ?_
  refine A_iload_n Γ1 dX0_init_367 0 rfl ?_
  refine A_bipush (v := nI 6) Γ1 dX0_init_368 (by decide) ?_
  refine A_icmp_ge (t := 395) Γ1 dX0_init_370 (by decide) (fun w => absurd (show nI 6 ≤ nI 5 from w) (by decide)) (fun _ => ?_)
  refine A_aload_n Γ1 dX0_init_373 1 rfl ?_
  refine g0_30 (X := xUp X ad) Γ1 Ξ dX0_init_374 ?_
  refine A_iload_n Γ1 dX0_init_377 0 rfl ?_
  refine A_bipush (v := (-9)) Γ1 dX0_init_378 (by decide) ?_
  refine w0_30 (X := xUp X ad) (σ1 := sx0_11) Γ1 Ξ (wrA_nI (n := 6) (j := 5) (σ := sx0_10) (by decide) (by decide)) dX0_init_380 ?_
  refine A_aload_n Γ1 dX0_init_381 1 rfl ?_
  refine g0_43 (X := xUp X ad) Γ1 Ξ dX0_init_382 ?_
  refine A_iload_n Γ1 dX0_init_385 0 rfl ?_
  refine A_bipush (v := (-9)) Γ1 dX0_init_386 (by decide) ?_
  refine w0_43 (X := xUp X ad) (σ1 := sx0_12) Γ1 Ξ (wrA_nI (n := 6) (j := 5) (σ := sx0_11) (by decide) (by decide)) dX0_init_388 ?_
  refine A_iinc (v := nI 6) (lv' := [(1, .int (nI 6)), (0, .ref (xo X))]) Γ1 dX0_init_389 0 rfl (by decide) (by decide) rfl ?_
  refine A_goto (t := 367) Γ1 dX0_init_392 (by decide) ?_
  refine A_iload_n Γ1 dX0_init_367 0 rfl ?_
  refine A_bipush (v := nI 6) Γ1 dX0_init_368 (by decide) ?_
  refine A_icmp_ge (t := 395) Γ1 dX0_init_370 (by decide) (fun _ => ?_) (fun w => absurd (show nI 6 ≤ nI 6 by decide) w)
  exact hret ad _ _ dX0_init_395)
