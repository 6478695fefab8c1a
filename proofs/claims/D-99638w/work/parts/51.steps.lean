/-! LAW: one round of each loop -/
theorem X_sumOf_5_s (u : Nat) (s : Sg) (a1 : Nat) (w : Nat) : X_sumOf_5 u s a1 (w + 1) = X_sumOf_5b u s a1 (X_sumOf_5 u s a1 w) := rfl
theorem X_dryOnes_4_s (u : Nat) (s : Sg) (a1 : Nat) (w : Nat) : X_dryOnes_4 u s a1 (w + 1) = X_dryOnes_4b u s a1 (X_dryOnes_4 u s a1 w) := rfl
theorem X_lakesOf_4_s (u : Nat) (s : Sg) (w : Nat) : X_lakesOf_4 u s (w + 1) = X_lakesOf_4b u s (X_lakesOf_4 u s w) := rfl
theorem X_sign_13_s (u : Nat) (w : Nat) : X_sign_13 u (w + 1) = X_sign_13b u (X_sign_13 u w) := rfl
theorem X_number_13_s (u : Nat) (w : Nat) : X_number_13 u (w + 1) = X_number_13b u (X_number_13 u w) := rfl
theorem X_sheet_38_s (u : Nat) (w : Nat) : X_sheet_38 u (w + 1) = X_sheet_38b u (X_sheet_38 u w) := rfl
theorem X_leaksDay_144_s (u : Nat) (a1 : Nat) (w : Nat) : X_leaksDay_144 u a1 (w + 1) = X_leaksDay_144b u a1 (X_leaksDay_144 u a1 w) := rfl
theorem X_leaksDay_94_s (u : Nat) (a1 : Nat) (w : Nat) : X_leaksDay_94 u a1 (w + 1) = X_leaksDay_94b u a1 (X_leaksDay_94 u a1 w) := rfl
theorem X_leaksDay_3_s (u : Nat) (a1 : Nat) (w : Nat) : X_leaksDay_3 u a1 (w + 1) = X_leaksDay_3b u a1 (X_leaksDay_3 u a1 w) := rfl
theorem X_daysGo_2_s (u : Nat) (a1 : Nat) (w : Nat) : X_daysGo_2 u a1 (w + 1) = X_daysGo_2b u a1 (X_daysGo_2 u a1 w) := rfl
theorem X_mostAlike_26_s (u : Nat) (w : Nat) : X_mostAlike_26 u (w + 1) = X_mostAlike_26b u (X_mostAlike_26 u w) := rfl
theorem X_mostAlike_2_s (u : Nat) (w : Nat) : X_mostAlike_2 u (w + 1) = X_mostAlike_2b u (X_mostAlike_2 u w) := rfl
theorem X_levelOf_4_s (u : Nat) (s : Sg) (w : Nat) : X_levelOf_4 u s (w + 1) = X_levelOf_4b u s (X_levelOf_4 u s w) := rfl
theorem X_isBare_18_s (u : Nat) (s : Sg) (w : Nat) : X_isBare_18 u s (w + 1) = X_isBare_18b u s (X_isBare_18 u s w) := rfl
theorem X_givesFromo_58_s (Fg : Sg → Int32 → Int32 → Int32 → Int32 → Option Sg) (u : Nat) (w : Nat) : X_givesFromo_58 Fg u (w + 1) = X_givesFromo_58b Fg u (X_givesFromo_58 Fg u w) := rfl
theorem X_duckGoes_93_s (u : Nat) (K25 : Sg → Int32 → Option Sg) (w : Nat) : X_duckGoes_93 u K25 (w + 1) = X_duckGoes_93b u K25 (X_duckGoes_93 u K25 w) := rfl
theorem X_duckGoes_37_s (u : Nat) (K25 : Sg → Int32 → Option Sg) (w : Nat) : X_duckGoes_37 u K25 (w + 1) = X_duckGoes_37b u K25 (X_duckGoes_37 u K25 w) := rfl
theorem X_duckGoes_25_s (u : Nat) (w : Nat) : X_duckGoes_25 u (w + 1) = X_duckGoes_25b u (X_duckGoes_25 u w) := rfl
theorem X_duckGoes_2_s (u : Nat) (w : Nat) : X_duckGoes_2 u (w + 1) = X_duckGoes_2b u (X_duckGoes_2 u w) := rfl
theorem X_isRest_2_s (u : Nat) (w : Nat) : X_isRest_2 u (w + 1) = X_isRest_2b u (X_isRest_2 u w) := rfl
theorem X_fullOnes_4_s (u : Nat) (s : Sg) (w : Nat) : X_fullOnes_4 u s (w + 1) = X_fullOnes_4b u s (X_fullOnes_4 u s w) := rfl
theorem M_sign_20_s (u : Nat) (w : Nat) : M_sign_20 u (w + 1) = M_sign_20b u (M_sign_20 u w) := rfl
theorem M_number_11_s (u : Nat) (w : Nat) : M_number_11 u (w + 1) = M_number_11b u (M_number_11 u w) := rfl
theorem M_lakes_91_s (u : Nat) (w : Nat) : M_lakes_91 u (w + 1) = M_lakes_91b u (M_lakes_91 u w) := rfl
theorem M_lakes_24_s (u : Nat) (w : Nat) : M_lakes_24 u (w + 1) = M_lakes_24b u (M_lakes_24 u w) := rfl
theorem M_outOnes_4_s (u : Nat) (s : Sg) (a1 : Nat) (w : Nat) : M_outOnes_4 u s a1 (w + 1) = M_outOnes_4b u s a1 (M_outOnes_4 u s a1 w) := rfl
theorem M_sumOf_5_s (u : Nat) (s : Sg) (a1 : Nat) (w : Nat) : M_sumOf_5 u s a1 (w + 1) = M_sumOf_5b u s a1 (M_sumOf_5 u s a1 w) := rfl
theorem M_sheet_40_s (u : Nat) (w : Nat) : M_sheet_40 u (w + 1) = M_sheet_40b u (M_sheet_40 u w) := rfl
theorem M_lay_2_s (u : Nat) (a0 : Nat) (a1 : Nat) (w : Nat) : M_lay_2 u a0 a1 (w + 1) = M_lay_2b u a0 a1 (M_lay_2 u a0 a1 w) := rfl
theorem M_remember_11_s (u : Nat) (a1 : Nat) (w : Nat) : M_remember_11 u a1 (w + 1) = M_remember_11b u a1 (M_remember_11 u a1 w) := rfl
theorem M_undo_26_s (u : Nat) (w : Nat) : M_undo_26 u (w + 1) = M_undo_26b u (M_undo_26 u w) := rfl
theorem M_ownOf_5_s (u : Nat) (s : Sg) (a1 : Nat) (w : Nat) : M_ownOf_5 u s a1 (w + 1) = M_ownOf_5b u s a1 (M_ownOf_5 u s a1 w) := rfl
theorem M_levelOf_5_s (u : Nat) (s : Sg) (a1 : Nat) (w : Nat) : M_levelOf_5 u s a1 (w + 1) = M_levelOf_5b u s a1 (M_levelOf_5 u s a1 w) := rfl
theorem M_realm_29_s (u : Nat) (w : Nat) : M_realm_29 u (w + 1) = M_realm_29b u (M_realm_29 u w) := rfl
theorem M_course_22_s (u : Nat) (w : Nat) : M_course_22 u (w + 1) = M_course_22b u (M_course_22 u w) := rfl
theorem M_basin_54_s (u : Nat) (K22 : Sg → Int32 → Int32 → Int32 → Int32 → Option (Int32 × Sg)) (w : Nat) : M_basin_54 u K22 (w + 1) = M_basin_54b u K22 (M_basin_54 u K22 w) := rfl
theorem M_basin_22_s (u : Nat) (w : Nat) : M_basin_22 u (w + 1) = M_basin_22b u (M_basin_22 u w) := rfl
theorem M_dryOnes_4_s (u : Nat) (s : Sg) (a1 : Nat) (w : Nat) : M_dryOnes_4 u s a1 (w + 1) = M_dryOnes_4b u s a1 (M_dryOnes_4 u s a1 w) := rfl
theorem M_threat_65_s (u : Nat) (w : Nat) : M_threat_65 u (w + 1) = M_threat_65b u (M_threat_65 u w) := rfl
theorem M_threat_23_s (u : Nat) (w : Nat) : M_threat_23 u (w + 1) = M_threat_23b u (M_threat_23 u w) := rfl
theorem M_levelOfKings_4_s (u : Nat) (s : Sg) (w : Nat) : M_levelOfKings_4 u s (w + 1) = M_levelOfKings_4b u s (M_levelOfKings_4 u s w) := rfl
theorem M_treaty_56_s (u : Nat) (K29 : Sg → Int32 → Int32 → Int32 → Int32 → Int32 → Option (Int32 × Sg)) (w : Nat) : M_treaty_56 u K29 (w + 1) = M_treaty_56b u K29 (M_treaty_56 u K29 w) := rfl
theorem M_treaty_29_s (u : Nat) (w : Nat) : M_treaty_29 u (w + 1) = M_treaty_29b u (M_treaty_29 u w) := rfl
theorem M_wants_29_s (u : Nat) (w : Nat) : M_wants_29 u (w + 1) = M_wants_29b u (M_wants_29 u w) := rfl
theorem M_evens_19_s (u : Nat) (w : Nat) : M_evens_19 u (w + 1) = M_evens_19b u (M_evens_19 u w) := rfl
theorem M_feared_9_s (u : Nat) (w : Nat) : M_feared_9 u (w + 1) = M_feared_9b u (M_feared_9 u w) := rfl
theorem M_heirs_264_s (u : Nat) (K222 : Sg → Int32 → Int32 → Int32 → Option (Int32 × Sg)) (w : Nat) : M_heirs_264 u K222 (w + 1) = M_heirs_264b u K222 (M_heirs_264 u K222 w) := rfl
theorem M_heirs_222_s (u : Nat) (w : Nat) : M_heirs_222 u (w + 1) = M_heirs_222b u (M_heirs_222 u w) := rfl
theorem M_heirs_129_s (u : Nat) (K97 : Sg → Int32 → Int32 → Option (Int32 × Sg)) (K103 : Sg → Int32 → Int32 → Int32 → Option (Int32 × Sg)) (w : Nat) : M_heirs_129 u K97 K103 (w + 1) = M_heirs_129b u K97 K103 (M_heirs_129 u K97 K103 w) := rfl
theorem M_heirs_103_s (u : Nat) (K97 : Sg → Int32 → Int32 → Option (Int32 × Sg)) (w : Nat) : M_heirs_103 u K97 (w + 1) = M_heirs_103b u K97 (M_heirs_103 u K97 w) := rfl
theorem M_heirs_97_s (u : Nat) (w : Nat) : M_heirs_97 u (w + 1) = M_heirs_97b u (M_heirs_97 u w) := rfl
theorem M_heirs_67_s (u : Nat) (w : Nat) : M_heirs_67 u (w + 1) = M_heirs_67b u (M_heirs_67 u w) := rfl
theorem M_heirs_13_s (u : Nat) (w : Nat) : M_heirs_13 u (w + 1) = M_heirs_13b u (M_heirs_13 u w) := rfl
theorem M_goDuck_145_s (u : Nat) (w : Nat) : M_goDuck_145 u (w + 1) = M_goDuck_145b u (M_goDuck_145 u w) := rfl
theorem M_goDuck_93_s (u : Nat) (K25 : Sg → Int32 → Option Sg) (w : Nat) : M_goDuck_93 u K25 (w + 1) = M_goDuck_93b u K25 (M_goDuck_93 u K25 w) := rfl
theorem M_goDuck_37_s (u : Nat) (K25 : Sg → Int32 → Option Sg) (w : Nat) : M_goDuck_37 u K25 (w + 1) = M_goDuck_37b u K25 (M_goDuck_37 u K25 w) := rfl
theorem M_goDuck_25_s (u : Nat) (w : Nat) : M_goDuck_25 u (w + 1) = M_goDuck_25b u (M_goDuck_25 u w) := rfl
theorem M_goDuck_2_s (u : Nat) (w : Nat) : M_goDuck_2 u (w + 1) = M_goDuck_2b u (M_goDuck_2 u w) := rfl
theorem M_duck_75_s (u : Nat) (w : Nat) : M_duck_75 u (w + 1) = M_duck_75b u (M_duck_75 u w) := rfl
theorem M_duck_36_s (u : Nat) (w : Nat) : M_duck_36 u (w + 1) = M_duck_36b u (M_duck_36 u w) := rfl
theorem M_isBest_2_s (u : Nat) (w : Nat) : M_isBest_2 u (w + 1) = M_isBest_2b u (M_isBest_2 u w) := rfl
theorem M_rests_35_s (u : Nat) (K26 : Sg → Int32 → Int32 → Int32 → Option (Int32 × Sg)) (w : Nat) : M_rests_35 u K26 (w + 1) = M_rests_35b u K26 (M_rests_35 u K26 w) := rfl
theorem M_rests_26_s (u : Nat) (w : Nat) : M_rests_26 u (w + 1) = M_rests_26b u (M_rests_26 u w) := rfl
theorem M_again_40_s (u : Nat) (w : Nat) : M_again_40 u (w + 1) = M_again_40b u (M_again_40 u w) := rfl
theorem M_fullOnes_4_s (u : Nat) (s : Sg) (w : Nat) : M_fullOnes_4 u s (w + 1) = M_fullOnes_4b u s (M_fullOnes_4 u s w) := rfl
theorem X_later_49_s (u : Nat) (w : Nat) : X_later_49 u (w + 1) = X_later_49b u (X_later_49 u w) := rfl
theorem X_daysTill_13_s (u : Nat) (w : Nat) : X_daysTill_13 u (w + 1) = X_daysTill_13b u (X_daysTill_13 u w) := rfl
theorem X_marks_55_s (u : Nat) (w : Nat) : X_marks_55 u (w + 1) = X_marks_55b u (X_marks_55 u w) := rfl
theorem X_course_17_s (u : Nat) (w : Nat) : X_course_17 u (w + 1) = X_course_17b u (X_course_17 u w) := rfl
theorem X_basin_21_s (u : Nat) (w : Nat) : X_basin_21 u (w + 1) = X_basin_21b u (X_basin_21 u w) := rfl
theorem X_order_56_s (u : Nat) (K34 : Sg → Int32 → Int32 → Int32 → Option (Int32 × Sg)) (w : Nat) : X_order_56 u K34 (w + 1) = X_order_56b u K34 (X_order_56 u K34 w) := rfl
theorem X_order_34_s (u : Nat) (w : Nat) : X_order_34 u (w + 1) = X_order_34b u (X_order_34 u w) := rfl
theorem X_meets_36_s (u : Nat) (w : Nat) : X_meets_36 u (w + 1) = X_meets_36b u (X_meets_36 u w) := rfl
theorem X_richest_41_s (u : Nat) (w : Nat) : X_richest_41 u (w + 1) = X_richest_41b u (X_richest_41 u w) := rfl
theorem X_swims_60_s (u : Nat) (w : Nat) : X_swims_60 u (w + 1) = X_swims_60b u (X_swims_60 u w) := rfl
theorem X_lets_27_s (u : Nat) (w : Nat) : X_lets_27 u (w + 1) = X_lets_27b u (X_lets_27 u w) := rfl
theorem X_just_27_s (u : Nat) (w : Nat) : X_just_27 u (w + 1) = X_just_27b u (X_just_27 u w) := rfl
theorem X_fills_34_s (u : Nat) (w : Nat) : X_fills_34 u (w + 1) = X_fills_34b u (X_fills_34 u w) := rfl
theorem X_needs_37_s (u : Nat) (w : Nat) : X_needs_37 u (w + 1) = X_needs_37b u (X_needs_37 u w) := rfl
theorem X_crosses_40_s (u : Nat) (w : Nat) : X_crosses_40 u (w + 1) = X_crosses_40b u (X_crosses_40 u w) := rfl
theorem X_laysLevels_88_s (u : Nat) (w : Nat) : X_laysLevels_88 u (w + 1) = X_laysLevels_88b u (X_laysLevels_88 u w) := rfl
theorem X_laysLevels_21_s (u : Nat) (K13 : Sg → Int32 → Int32 → Option Sg) (w : Nat) : X_laysLevels_21 u K13 (w + 1) = X_laysLevels_21b u K13 (X_laysLevels_21 u K13 w) := rfl
theorem X_laysLevels_13_s (u : Nat) (w : Nat) : X_laysLevels_13 u (w + 1) = X_laysLevels_13b u (X_laysLevels_13 u w) := rfl
theorem X_laysLeaks_4_s (u : Nat) (w : Nat) : X_laysLeaks_4 u (w + 1) = X_laysLeaks_4b u (X_laysLeaks_4 u w) := rfl
theorem X_leaks_37_s (u : Nat) (w : Nat) : X_leaks_37 u (w + 1) = X_leaks_37b u (X_leaks_37 u w) := rfl
theorem X_reads_29_s (u : Nat) (K18 : Sg → Int32 → Int32 → Int32 → Option (Int32 × Sg)) (w : Nat) : X_reads_29 u K18 (w + 1) = X_reads_29b u K18 (X_reads_29 u K18 w) := rfl
theorem X_reads_18_s (u : Nat) (w : Nat) : X_reads_18 u (w + 1) = X_reads_18b u (X_reads_18 u w) := rfl
theorem X_threat_65_s (u : Nat) (w : Nat) : X_threat_65 u (w + 1) = X_threat_65b u (X_threat_65 u w) := rfl
theorem X_threat_14_s (u : Nat) (w : Nat) : X_threat_14 u (w + 1) = X_threat_14b u (X_threat_14 u w) := rfl
theorem X_treaty_25_s (u : Nat) (w : Nat) : X_treaty_25 u (w + 1) = X_treaty_25b u (X_treaty_25 u w) := rfl
theorem X_wants_25_s (u : Nat) (w : Nat) : X_wants_25 u (w + 1) = X_wants_25b u (X_wants_25 u w) := rfl
theorem X_evens_8_s (u : Nat) (w : Nat) : X_evens_8 u (w + 1) = X_evens_8b u (X_evens_8 u w) := rfl
theorem X_feared_8_s (u : Nat) (w : Nat) : X_feared_8 u (w + 1) = X_feared_8b u (X_feared_8 u w) := rfl
theorem X_duck_72_s (u : Nat) (w : Nat) : X_duck_72 u (w + 1) = X_duck_72b u (X_duck_72 u w) := rfl
theorem X_duck_36_s (u : Nat) (w : Nat) : X_duck_36 u (w + 1) = X_duck_36b u (X_duck_36 u w) := rfl
theorem X_spoon_51_s (u : Nat) (w : Nat) : X_spoon_51 u (w + 1) = X_spoon_51b u (X_spoon_51 u w) := rfl
theorem X_rests_32_s (u : Nat) (K23 : Sg → Int32 → Int32 → Int32 → Option (Int32 × Sg)) (w : Nat) : X_rests_32 u K23 (w + 1) = X_rests_32b u K23 (X_rests_32 u K23 w) := rfl
theorem X_rests_23_s (u : Nat) (w : Nat) : X_rests_23 u (w + 1) = X_rests_23b u (X_rests_23 u w) := rfl
theorem X_years_32_s (u : Nat) (w : Nat) : X_years_32 u (w + 1) = X_years_32b u (X_years_32 u w) := rfl
theorem M_sumo_6_s (Fp : Sg → Int32 → Option (Int32 × Sg)) (u : Nat) (w : Nat) : M_sumo_6 Fp u (w + 1) = M_sumo_6b Fp u (M_sumo_6 Fp u w) := rfl
theorem M_producto_6_s (Ft : Sg → Int32 → Option (Int32 × Sg)) (u : Nat) (w : Nat) : M_producto_6 Ft u (w + 1) = M_producto_6b Ft u (M_producto_6 Ft u w) := rfl
theorem M_rule_26_s (u : Nat) (w : Nat) : M_rule_26 u (w + 1) = M_rule_26b u (M_rule_26 u w) := rfl
theorem M_goDay_88_s (u : Nat) (a1 : Nat) (w : Nat) : M_goDay_88 u a1 (w + 1) = M_goDay_88b u a1 (M_goDay_88 u a1 w) := rfl
theorem M_goDay_42_s (u : Nat) (a1 : Nat) (w : Nat) : M_goDay_42 u a1 (w + 1) = M_goDay_42b u a1 (M_goDay_42 u a1 w) := rfl
theorem M_goDay_2_s (u : Nat) (a1 : Nat) (w : Nat) : M_goDay_2 u a1 (w + 1) = M_goDay_2b u a1 (M_goDay_2 u a1 w) := rfl
theorem M_goDays_2_s (u : Nat) (a1 : Nat) (w : Nat) : M_goDays_2 u a1 (w + 1) = M_goDays_2b u a1 (M_goDays_2 u a1 w) := rfl
theorem M_later_37_s (u : Nat) (w : Nat) : M_later_37 u (w + 1) = M_later_37b u (M_later_37 u w) := rfl
theorem M_dries_29_s (u : Nat) (w : Nat) : M_dries_29 u (w + 1) = M_dries_29b u (M_dries_29 u w) := rfl
theorem M_brims_29_s (u : Nat) (w : Nat) : M_brims_29 u (w + 1) = M_brims_29b u (M_brims_29 u w) := rfl
theorem M_marks_61_s (u : Nat) (w : Nat) : M_marks_61 u (w + 1) = M_marks_61b u (M_marks_61 u w) := rfl
theorem M_order_46_s (u : Nat) (K38 : Sg → Int32 → Int32 → Int32 → Option (Int32 × Sg)) (w : Nat) : M_order_46 u K38 (w + 1) = M_order_46b u K38 (M_order_46 u K38 w) := rfl
theorem M_order_38_s (u : Nat) (w : Nat) : M_order_38 u (w + 1) = M_order_38b u (M_order_38 u w) := rfl
theorem M_meets_30_s (u : Nat) (w : Nat) : M_meets_30 u (w + 1) = M_meets_30b u (M_meets_30 u w) := rfl
theorem M_richest_26_s (u : Nat) (w : Nat) : M_richest_26 u (w + 1) = M_richest_26b u (M_richest_26 u w) := rfl
theorem M_swims_62_s (u : Nat) (w : Nat) : M_swims_62 u (w + 1) = M_swims_62b u (M_swims_62 u w) := rfl
theorem M_goTouched_14_s (u : Nat) (w : Nat) : M_goTouched_14 u (w + 1) = M_goTouched_14b u (M_goTouched_14 u w) := rfl
theorem M_fewest_6_s (u : Nat) (w : Nat) : M_fewest_6 u (w + 1) = M_fewest_6b u (M_fewest_6 u w) := rfl
theorem M_fills_35_s (u : Nat) (w : Nat) : M_fills_35 u (w + 1) = M_fills_35b u (M_fills_35 u w) := rfl
theorem M_needs_38_s (u : Nat) (w : Nat) : M_needs_38 u (w + 1) = M_needs_38b u (M_needs_38 u w) := rfl
theorem M_crosses_36_s (u : Nat) (w : Nat) : M_crosses_36 u (w + 1) = M_crosses_36b u (M_crosses_36 u w) := rfl
theorem M_isRight_37_s (u : Nat) (K27 : Sg → Int32 → Int32 → Option (Int32 × Sg)) (w : Nat) : M_isRight_37 u K27 (w + 1) = M_isRight_37b u K27 (M_isRight_37 u K27 w) := rfl
theorem M_isRight_27_s (u : Nat) (w : Nat) : M_isRight_27 u (w + 1) = M_isRight_27b u (M_isRight_27 u w) := rfl
theorem M_leaks_42_s (u : Nat) (K32 : Sg → Int32 → Int32 → Option (Int32 × Sg)) (w : Nat) : M_leaks_42 u K32 (w + 1) = M_leaks_42b u K32 (M_leaks_42 u K32 w) := rfl
theorem M_leaks_32_s (u : Nat) (w : Nat) : M_leaks_32 u (w + 1) = M_leaks_32b u (M_leaks_32 u w) := rfl
theorem M_reads_207_s (u : Nat) (K182 : Sg → Int32 → Int32 → Int32 → Option (Int32 × Sg)) (K194 : Sg → Int32 → Int32 → Int32 → Int32 → Option (Int32 × Sg)) (w : Nat) : M_reads_207 u K182 K194 (w + 1) = M_reads_207b u K182 K194 (M_reads_207 u K182 K194 w) := rfl
theorem M_reads_194_s (u : Nat) (K182 : Sg → Int32 → Int32 → Int32 → Option (Int32 × Sg)) (w : Nat) : M_reads_194 u K182 (w + 1) = M_reads_194b u K182 (M_reads_194 u K182 w) := rfl
theorem M_reads_182_s (u : Nat) (w : Nat) : M_reads_182 u (w + 1) = M_reads_182b u (M_reads_182 u w) := rfl
theorem M_reads_96_s (u : Nat) (K31 : Sg → Int32 → Int32 → Option (Int32 × Sg)) (K41 : Sg → Int32 → Int32 → Int32 → Option (Int32 × Sg)) (K86 : Sg → Int32 → Int32 → Int32 → Int32 → Option (Int32 × Sg)) (w : Nat) : M_reads_96 u K31 K41 K86 (w + 1) = M_reads_96b u K31 K41 K86 (M_reads_96 u K31 K41 K86 w) := rfl
theorem M_reads_86_s (u : Nat) (K31 : Sg → Int32 → Int32 → Option (Int32 × Sg)) (K41 : Sg → Int32 → Int32 → Int32 → Option (Int32 × Sg)) (w : Nat) : M_reads_86 u K31 K41 (w + 1) = M_reads_86b u K31 K41 (M_reads_86 u K31 K41 w) := rfl
theorem M_reads_41_s (u : Nat) (K31 : Sg → Int32 → Int32 → Option (Int32 × Sg)) (w : Nat) : M_reads_41 u K31 (w + 1) = M_reads_41b u K31 (M_reads_41 u K31 w) := rfl
theorem M_reads_31_s (u : Nat) (w : Nat) : M_reads_31 u (w + 1) = M_reads_31b u (M_reads_31 u w) := rfl
theorem M_reads_7_s (u : Nat) (w : Nat) : M_reads_7 u (w + 1) = M_reads_7b u (M_reads_7 u w) := rfl
theorem M_spoon_53_s (u : Nat) (w : Nat) : M_spoon_53 u (w + 1) = M_spoon_53b u (M_spoon_53 u w) := rfl
theorem M_law_58_s (u : Nat) (w : Nat) : M_law_58 u (w + 1) = M_law_58b u (M_law_58 u w) := rfl
theorem M_years_36_s (u : Nat) (w : Nat) : M_years_36 u (w + 1) = M_years_36b u (M_years_36 u w) := rfl
theorem M_year_72_s (u : Nat) (w : Nat) : M_year_72 u (w + 1) = M_year_72b u (M_year_72 u w) := rfl
theorem M_year_13_s (u : Nat) (w : Nat) : M_year_13 u (w + 1) = M_year_13b u (M_year_13 u w) := rfl
theorem X_putsBy_18_s (u : Nat) (a1 : Nat) (w : Nat) : X_putsBy_18 u a1 (w + 1) = X_putsBy_18b u a1 (X_putsBy_18 u a1 w) := rfl
theorem X_year_64_s (u : Nat) (w : Nat) : X_year_64 u (w + 1) = X_year_64b u (X_year_64 u w) := rfl
theorem X_year_14_s (u : Nat) (w : Nat) : X_year_14 u (w + 1) = X_year_14b u (X_year_14 u w) := rfl
theorem X_heirs_84_s (u : Nat) (w : Nat) : X_heirs_84 u (w + 1) = X_heirs_84b u (X_heirs_84 u w) := rfl
theorem X_heirs_9_s (u : Nat) (w : Nat) : X_heirs_9 u (w + 1) = X_heirs_9b u (X_heirs_9 u w) := rfl
theorem X_lakes_72_s (u : Nat) (w : Nat) : X_lakes_72 u (w + 1) = X_lakes_72b u (X_lakes_72 u w) := rfl
theorem X_lakes_22_s (u : Nat) (w : Nat) : X_lakes_22 u (w + 1) = X_lakes_22b u (X_lakes_22 u w) := rfl
theorem X_parseso_20_s (Ft : Sg → Option (Option Nat × Sg)) (Fp : Sg → Int32 → Option (Option Nat × Sg)) (u : Nat) (w : Nat) : X_parseso_20 Ft Fp u (w + 1) = X_parseso_20b Ft Fp u (X_parseso_20 Ft Fp u w) := rfl
theorem L_law_23_s (u : Nat) (w : Nat) : L_law_23 u (w + 1) = L_law_23b u (L_law_23 u w) := rfl
