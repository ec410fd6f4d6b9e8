set_option maxRecDepth 100000
theorem mk_F_eq {nL : Nat} {B : KK OO} {av : List Value} {L : LL} {h : AH} (h1 : l_ent av nL = L) (h2 : Nat.ble (l_args av).length nL = true) : mk_F nL B av h = B L [] h := by
  unfold mk_F
  rw [if_pos (Nat.le_of_ble_eq_true h2), h1]
theorem ent_J0_init_2 (a0 : Nat) (a1 : Nat) (a2 : Nat) (a3 : Int32) (a4 : Int32) (h : AH) : F_J0_init_2 [.ref a0, .ref a1, .ref a2, .int a3, .int a4] h = F_J0_init_2_b0 [some (.ref a0), some (.ref a1), some (.ref a2), some (.int a3), some (.int a4)] [] h := mk_F_eq rfl rfl
theorem ent_J1_init (a0 : Nat) (a1 : Nat) (a2 : Nat) (a3 : Int32) (a4 : Int32) (h : AH) : F_J1_init [.ref a0, .ref a1, .ref a2, .int a3, .int a4] h = F_J1_init_b0 [some (.ref a0), some (.ref a1), some (.ref a2), some (.int a3), some (.int a4)] [] h := mk_F_eq rfl rfl
theorem ent_J2_init (a0 : Nat) (a1 : Nat) (a2 : Nat) (a3 : Int32) (a4 : Int32) (h : AH) : F_J2_init [.ref a0, .ref a1, .ref a2, .int a3, .int a4] h = F_J2_init_b0 [some (.ref a0), some (.ref a1), some (.ref a2), some (.int a3), some (.int a4)] [] h := mk_F_eq rfl rfl
theorem ent_J5_coderFromArrayLen (a0 : Nat) (a1 : Int32) (h : AH) : F_J5_coderFromArrayLen [.ref a0, .int a1] h = F_J5_coderFromArrayLen_b0 [some (.ref a0), some (.int a1)] [] h := mk_F_eq rfl rfl
theorem ent_J5_compress_2 (a0 : Nat) (a1 : Int32) (a2 : Nat) (a3 : Int32) (a4 : Int32) (h : AH) : F_J5_compress_2 [.ref a0, .int a1, .ref a2, .int a3, .int a4] h = F_J5_compress_2_b0 [some (.ref a0), some (.int a1), some (.ref a2), some (.int a3), some (.int a4), none, none] [] h := mk_F_eq rfl rfl
theorem ent_J5_compress (a0 : Nat) (a1 : Int32) (a2 : Int32) (h : AH) : F_J5_compress [.ref a0, .int a1, .int a2] h = F_J5_compress_b0 [some (.ref a0), some (.int a1), some (.int a2), none, none, none] [] h := mk_F_eq rfl rfl
theorem ent_J3_init_2 (a0 : Nat) (a1 : Nat) (a2 : Int32) (a3 : Int32) (a4 : Nat) (h : AH) : F_J3_init_2 [.ref a0, .ref a1, .int a2, .int a3, .ref a4] h = F_J3_init_2_b0 [some (.ref a0), some (.ref a1), some (.int a2), some (.int a3), some (.ref a4), none] [] h := mk_F_eq rfl rfl
theorem ent_J4_checkFromIndexSize (a0 : Int32) (a1 : Int32) (a2 : Int32) (a3 : Nat) (h : AH) : F_J4_checkFromIndexSize [.int a0, .int a1, .int a2, .ref a3] h = F_J4_checkFromIndexSize_b0 [some (.int a0), some (.int a1), some (.int a2), some (.ref a3)] [] h := mk_F_eq rfl rfl
theorem ent_J3_checkBoundsOffCount (a0 : Int32) (a1 : Int32) (a2 : Int32) (h : AH) : F_J3_checkBoundsOffCount [.int a0, .int a1, .int a2] h = F_J3_checkBoundsOffCount_b0 [some (.int a0), some (.int a1), some (.int a2)] [] h := mk_F_eq rfl rfl
theorem ent_J3_rangeCheck (a0 : Nat) (a1 : Int32) (a2 : Int32) (h : AH) : F_J3_rangeCheck [.ref a0, .int a1, .int a2] h = F_J3_rangeCheck_b0 [some (.ref a0), some (.int a1), some (.int a2)] [] h := mk_F_eq rfl rfl
theorem ent_J3_init (a0 : Nat) (a1 : Nat) (a2 : Int32) (a3 : Int32) (h : AH) : F_J3_init [.ref a0, .ref a1, .int a2, .int a3] h = F_J3_init_b0 [some (.ref a0), some (.ref a1), some (.int a2), some (.int a3)] [] h := mk_F_eq rfl rfl
theorem ent_J3_isLatin1 (a0 : Nat) (h : AH) : F_J3_isLatin1 [.ref a0] h = F_J3_isLatin1_b0 [some (.ref a0)] [] h := mk_F_eq rfl rfl
theorem ent_J7_signedHashCode (a0 : Int32) (a1 : Nat) (a2 : Int32) (a3 : Int32) (h : AH) : F_J7_signedHashCode [.int a0, .ref a1, .int a2, .int a3] h = F_J7_signedHashCode_b0 [some (.int a0), some (.ref a1), some (.int a2), some (.int a3), none, none] [] h := mk_F_eq rfl rfl
theorem ent_J7_vectorizedHashCode (a0 : Nat) (a1 : Int32) (a2 : Int32) (a3 : Int32) (a4 : Int32) (h : AH) : F_J7_vectorizedHashCode [.ref a0, .int a1, .int a2, .int a3, .int a4] h = F_J7_vectorizedHashCode_b0 [some (.ref a0), some (.int a1), some (.int a2), some (.int a3), some (.int a4)] [] h := mk_F_eq rfl rfl
theorem ent_J6_hashCode (a0 : Nat) (h : AH) : F_J6_hashCode [.ref a0] h = F_J6_hashCode_b0 [some (.ref a0)] [] h := mk_F_eq rfl rfl
theorem ent_J3_hashCode (a0 : Nat) (h : AH) : F_J3_hashCode [.ref a0] h = F_J3_hashCode_b0 [some (.ref a0), none] [] h := mk_F_eq rfl rfl
theorem ent_J6_equals (a0 : Nat) (a1 : Nat) (h : AH) : F_J6_equals [.ref a0, .ref a1] h = F_J6_equals_b0 [some (.ref a0), some (.ref a1), none] [] h := mk_F_eq rfl rfl
theorem ent_J3_equals (a0 : Nat) (a1 : Nat) (h : AH) : F_J3_equals [.ref a0, .ref a1] h = F_J3_equals_b0 [some (.ref a0), some (.ref a1), none] [] h := mk_F_eq rfl rfl
theorem ent_J3_coder (a0 : Nat) (h : AH) : F_J3_coder [.ref a0] h = F_J3_coder_b0 [some (.ref a0)] [] h := mk_F_eq rfl rfl
theorem ent_J3_length (a0 : Nat) (h : AH) : F_J3_length [.ref a0] h = F_J3_length_b0 [some (.ref a0)] [] h := mk_F_eq rfl rfl
theorem ent_J4_checkIndex (a0 : Int32) (a1 : Int32) (a2 : Nat) (h : AH) : F_J4_checkIndex [.int a0, .int a1, .ref a2] h = F_J4_checkIndex_b0 [some (.int a0), some (.int a1), some (.ref a2)] [] h := mk_F_eq rfl rfl
theorem ent_J3_checkIndex (a0 : Int32) (a1 : Int32) (h : AH) : F_J3_checkIndex [.int a0, .int a1] h = F_J3_checkIndex_b0 [some (.int a0), some (.int a1)] [] h := mk_F_eq rfl rfl
theorem ent_J6_charAt (a0 : Nat) (a1 : Int32) (h : AH) : F_J6_charAt [.ref a0, .int a1] h = F_J6_charAt_b0 [some (.ref a0), some (.int a1)] [] h := mk_F_eq rfl rfl
theorem ent_J3_charAt (a0 : Nat) (a1 : Int32) (h : AH) : F_J3_charAt [.ref a0, .int a1] h = F_J3_charAt_b0 [some (.ref a0), some (.int a1)] [] h := mk_F_eq rfl rfl
theorem ent_J8_compare (a0 : Int32) (a1 : Int32) (h : AH) : F_J8_compare [.int a0, .int a1] h = F_J8_compare_b0 [some (.int a0), some (.int a1)] [] h := mk_F_eq rfl rfl
theorem ent_X1_has (a0 : Int32) (a1 : Int32) (h : AH) : F_X1_has [.int a0, .int a1] h = F_X1_has_b0 [some (.int a0), some (.int a1)] [] h := mk_F_eq rfl rfl
theorem ent_X3_init (a0 : Nat) (h : AH) : F_X3_init [.ref a0] h = F_X3_init_b0 [some (.ref a0)] [] h := mk_F_eq rfl rfl
theorem ent_X2_init (a0 : Nat) (a1 : Nat) (h : AH) : F_X2_init [.ref a0, .ref a1] h = F_X2_init_b0 [some (.ref a0), some (.ref a1)] [] h := mk_F_eq rfl rfl
theorem ent_X4_init (a0 : Nat) (h : AH) : F_X4_init [.ref a0] h = F_X4_init_b0 [some (.ref a0)] [] h := mk_F_eq rfl rfl
theorem ent_X5_init (a0 : Nat) (h : AH) : F_X5_init [.ref a0] h = F_X5_init_b0 [some (.ref a0)] [] h := mk_F_eq rfl rfl
theorem ent_X6_init (a0 : Nat) (a1 : Nat) (h : AH) : F_X6_init [.ref a0, .ref a1] h = F_X6_init_b0 [some (.ref a0), some (.ref a1)] [] h := mk_F_eq rfl rfl
theorem ent_X7_init (a0 : Nat) (h : AH) : F_X7_init [.ref a0] h = F_X7_init_b0 [some (.ref a0)] [] h := mk_F_eq rfl rfl
theorem ent_X1_init (a0 : Nat) (h : AH) : F_X1_init [.ref a0] h = F_X1_init_b0 [some (.ref a0), none] [] h := mk_F_eq rfl rfl
theorem ent_X1_bytes (a0 : Nat) (a1 : Int32) (h : AH) : F_X1_bytes [.ref a0, .int a1] h = F_X1_bytes_b0 [some (.ref a0), some (.int a1), none] [] h := mk_F_eq rfl rfl
theorem ent_X1_feed (a0 : Nat) (a1 : Int32) (a2 : Int32) (a3 : Int32) (a4 : Int32) (a5 : Int32) (h : AH) : F_X1_feed [.ref a0, .int a1, .int a2, .int a3, .int a4, .int a5] h = F_X1_feed_b0 [some (.ref a0), some (.int a1), some (.int a2), some (.int a3), some (.int a4), some (.int a5)] [] h := mk_F_eq rfl rfl
theorem ent_X1_anew (a0 : Nat) (h : AH) : F_X1_anew [.ref a0] h = F_X1_anew_b0 [some (.ref a0)] [] h := mk_F_eq rfl rfl
theorem ent_X1_in (a0 : Int32) (a1 : Int32) (a2 : Int32) (h : AH) : F_X1_in [.int a0, .int a1, .int a2] h = F_X1_in_b0 [some (.int a0), some (.int a1), some (.int a2)] [] h := mk_F_eq rfl rfl
theorem ent_X1_no (a0 : Nat) (a1 : Int32) (h : AH) : F_X1_no [.ref a0, .int a1] h = F_X1_no_b0 [some (.ref a0), some (.int a1)] [] h := mk_F_eq rfl rfl
theorem ent_X3_at (a0 : Nat) (a1 : Int32) (a2 : Int32) (h : AH) : F_X3_at [.ref a0, .int a1, .int a2] h = F_X3_at_b0 [some (.ref a0), some (.int a1), some (.int a2)] [] h := mk_F_eq rfl rfl
theorem ent_X2_fail (a0 : Nat) (a1 : Int32) (h : AH) : F_X2_fail [.ref a0, .int a1] h = F_X2_fail_b0 [some (.ref a0), some (.int a1)] [] h := mk_F_eq rfl rfl
theorem ent_X2_isDigit (a0 : Int32) (h : AH) : F_X2_isDigit [.int a0] h = F_X2_isDigit_b0 [some (.int a0)] [] h := mk_F_eq rfl rfl
theorem ent_X2_isSmall (a0 : Int32) (h : AH) : F_X2_isSmall [.int a0] h = F_X2_isSmall_b0 [some (.int a0)] [] h := mk_F_eq rfl rfl
theorem ent_X2_see (a0 : Nat) (a1 : Int32) (h : AH) : F_X2_see [.ref a0, .int a1] h = F_X2_see_b0 [some (.ref a0), some (.int a1)] [] h := mk_F_eq rfl rfl
theorem ent_X2_next (a0 : Nat) (h : AH) : F_X2_next [.ref a0] h = F_X2_next_b0 [some (.ref a0), none, none] [] h := mk_F_eq rfl rfl
theorem ent_X2_takes (a0 : Nat) (a1 : Nat) (h : AH) : F_X2_takes [.ref a0, .ref a1] h = F_X2_takes_b0 [some (.ref a0), some (.ref a1)] [] h := mk_F_eq rfl rfl
theorem ent_X2_must (a0 : Nat) (a1 : Nat) (h : AH) : F_X2_must [.ref a0, .ref a1] h = F_X2_must_b0 [some (.ref a0), some (.ref a1)] [] h := mk_F_eq rfl rfl
theorem ent_X2_number (a0 : Nat) (a1 : Int32) (a2 : Int32) (h : AH) : F_X2_number [.ref a0, .int a1, .int a2] h = F_X2_number_b0 [some (.ref a0), some (.int a1), some (.int a2), none] [] h := mk_F_eq rfl rfl
theorem ent_X2_after (a0 : Nat) (a1 : Nat) (a2 : Int32) (a3 : Int32) (h : AH) : F_X2_after [.ref a0, .ref a1, .int a2, .int a3] h = F_X2_after_b0 [some (.ref a0), some (.ref a1), some (.int a2), some (.int a3)] [] h := mk_F_eq rfl rfl
theorem ent_X11_add (a0 : Nat) (a1 : Int32) (a2 : Int32) (h : AH) : F_X11_add [.ref a0, .int a1, .int a2] h = F_X11_add_b0 [some (.ref a0), some (.int a1), some (.int a2)] [] h := mk_F_eq rfl rfl
theorem ent_X11_size (a0 : Nat) (a1 : Int32) (h : AH) : F_X11_size [.ref a0, .int a1] h = F_X11_size_b0 [some (.ref a0), some (.int a1)] [] h := mk_F_eq rfl rfl
theorem ent_X2_comma (a0 : Nat) (h : AH) : F_X2_comma [.ref a0] h = F_X2_comma_b0 [some (.ref a0)] [] h := mk_F_eq rfl rfl
theorem ent_X2_arm (a0 : Nat) (a1 : Nat) (a2 : Int32) (a3 : Nat) (h : AH) : F_X2_arm [.ref a0, .ref a1, .int a2, .ref a3] h = F_X2_arm_b0 [some (.ref a0), some (.ref a1), some (.int a2), some (.ref a3), none, none] [] h := mk_F_eq rfl rfl
theorem ent_X2_begins (a0 : Nat) (a1 : Int32) (h : AH) : F_X2_begins [.ref a0, .int a1] h = F_X2_begins_b0 [some (.ref a0), some (.int a1)] [] h := mk_F_eq rfl rfl
theorem ent_X10_init (a0 : Nat) (a1 : Nat) (a2 : Int32) (h : AH) : F_X10_init [.ref a0, .ref a1, .int a2] h = F_X10_init_b0 [some (.ref a0), some (.ref a1), some (.int a2)] [] h := mk_F_eq rfl rfl
theorem ent_X11_init (a0 : Nat) (a1 : Nat) (a2 : Int32) (h : AH) : F_X11_init [.ref a0, .ref a1, .int a2] h = F_X11_init_b0 [some (.ref a0), some (.ref a1), some (.int a2)] [] h := mk_F_eq rfl rfl
theorem ent_X12_init (a0 : Nat) (a1 : Nat) (a2 : Int32) (h : AH) : F_X12_init [.ref a0, .ref a1, .int a2] h = F_X12_init_b0 [some (.ref a0), some (.ref a1), some (.int a2)] [] h := mk_F_eq rfl rfl
theorem ent_X13_init (a0 : Nat) (a1 : Nat) (a2 : Int32) (h : AH) : F_X13_init [.ref a0, .ref a1, .int a2] h = F_X13_init_b0 [some (.ref a0), some (.ref a1), some (.int a2)] [] h := mk_F_eq rfl rfl
theorem ent_X14_init (a0 : Nat) (a1 : Nat) (a2 : Int32) (h : AH) : F_X14_init [.ref a0, .ref a1, .int a2] h = F_X14_init_b0 [some (.ref a0), some (.ref a1), some (.int a2)] [] h := mk_F_eq rfl rfl
theorem ent_X2_boneOf (a0 : Nat) (a1 : Nat) (a2 : Int32) (h : AH) : F_X2_boneOf [.ref a0, .ref a1, .int a2] h = F_X2_boneOf_b0 [some (.ref a0), some (.ref a1), some (.int a2)] [] h := mk_F_eq rfl rfl
theorem ent_X2_mustName (a0 : Nat) (h : AH) : F_X2_mustName [.ref a0] h = F_X2_mustName_b0 [some (.ref a0), none, none] [] h := mk_F_eq rfl rfl
theorem ent_X9_among (a0 : Nat) (a1 : Int32) (a2 : Nat) (h : AH) : F_X9_among [.ref a0, .int a1, .ref a2] h = F_X9_among_b0 [some (.ref a0), some (.int a1), some (.ref a2), none] [] h := mk_F_eq rfl rfl
theorem ent_X9_find (a0 : Nat) (a1 : Nat) (h : AH) : F_X9_find [.ref a0, .ref a1] h = F_X9_find_b0 [some (.ref a0), some (.ref a1), none] [] h := mk_F_eq rfl rfl
theorem ent_X2_newName (a0 : Nat) (h : AH) : F_X2_newName [.ref a0] h = F_X2_newName_b0 [some (.ref a0), none] [] h := mk_F_eq rfl rfl
theorem ent_X2_boneLine (a0 : Nat) (h : AH) : F_X2_boneLine [.ref a0] h = F_X2_boneLine_b0 [some (.ref a0), none] [] h := mk_F_eq rfl rfl
theorem ent_X2_personHere (a0 : Nat) (h : AH) : F_X2_personHere [.ref a0] h = F_X2_personHere_b0 [some (.ref a0), none] [] h := mk_F_eq rfl rfl
theorem ent_X2_cheats (a0 : Nat) (h : AH) : F_X2_cheats [.ref a0] h = F_X2_cheats_b0 [some (.ref a0), none, none] [] h := mk_F_eq rfl rfl
theorem ent_X2_person (a0 : Nat) (h : AH) : F_X2_person [.ref a0] h = F_X2_person_b0 [some (.ref a0), none] [] h := mk_F_eq rfl rfl
theorem ent_X2_forLine (a0 : Nat) (h : AH) : F_X2_forLine [.ref a0] h = F_X2_forLine_b0 [some (.ref a0), none, none, none] [] h := mk_F_eq rfl rfl
theorem ent_X2_kitchenLine (a0 : Nat) (h : AH) : F_X2_kitchenLine [.ref a0] h = F_X2_kitchenLine_b0 [some (.ref a0), none] [] h := mk_F_eq rfl rfl
theorem ent_X15_init (a0 : Nat) (a1 : Nat) (a2 : Int32) (h : AH) : F_X15_init [.ref a0, .ref a1, .int a2] h = F_X15_init_b0 [some (.ref a0), some (.ref a1), some (.int a2)] [] h := mk_F_eq rfl rfl
theorem ent_X16_init (a0 : Nat) (a1 : Nat) (a2 : Int32) (h : AH) : F_X16_init [.ref a0, .ref a1, .int a2] h = F_X16_init_b0 [some (.ref a0), some (.ref a1), some (.int a2)] [] h := mk_F_eq rfl rfl
theorem ent_X17_init (a0 : Nat) (a1 : Nat) (a2 : Int32) (h : AH) : F_X17_init [.ref a0, .ref a1, .int a2] h = F_X17_init_b0 [some (.ref a0), some (.ref a1), some (.int a2)] [] h := mk_F_eq rfl rfl
theorem ent_X18_init (a0 : Nat) (a1 : Nat) (a2 : Int32) (h : AH) : F_X18_init [.ref a0, .ref a1, .int a2] h = F_X18_init_b0 [some (.ref a0), some (.ref a1), some (.int a2)] [] h := mk_F_eq rfl rfl
theorem ent_X19_init (a0 : Nat) (a1 : Nat) (a2 : Int32) (h : AH) : F_X19_init [.ref a0, .ref a1, .int a2] h = F_X19_init_b0 [some (.ref a0), some (.ref a1), some (.int a2)] [] h := mk_F_eq rfl rfl
theorem ent_X2_personOf (a0 : Nat) (a1 : Nat) (a2 : Int32) (h : AH) : F_X2_personOf [.ref a0, .ref a1, .int a2] h = F_X2_personOf_b0 [some (.ref a0), some (.ref a1), some (.int a2)] [] h := mk_F_eq rfl rfl
theorem ent_X2_personLine (a0 : Nat) (h : AH) : F_X2_personLine [.ref a0] h = F_X2_personLine_b0 [some (.ref a0), none] [] h := mk_F_eq rfl rfl
theorem ent_X2_side (a0 : Nat) (h : AH) : F_X2_side [.ref a0] h = F_X2_side_b0 [some (.ref a0)] [] h := mk_F_eq rfl rfl
theorem ent_X2_piece (a0 : Nat) (h : AH) : F_X2_piece [.ref a0] h = F_X2_piece_b0 [some (.ref a0), none, none] [] h := mk_F_eq rfl rfl
theorem ent_X2_won (a0 : Nat) (h : AH) : F_X2_won [.ref a0] h = F_X2_won_b0 [some (.ref a0), none, none, none] [] h := mk_F_eq rfl rfl
theorem ent_X2_line (a0 : Nat) (h : AH) : F_X2_line [.ref a0] h = F_X2_line_b0 [some (.ref a0), none, none] [] h := mk_F_eq rfl rfl
theorem ent_X9_init (a0 : Nat) (h : AH) : F_X9_init [.ref a0] h = F_X9_init_b0 [some (.ref a0)] [] h := mk_F_eq rfl rfl
theorem ent_X2_read (a0 : Nat) (a1 : Int32) (h : AH) : F_X2_read [.ref a0, .int a1] h = F_X2_read_b0 [some (.ref a0), some (.int a1)] [] h := mk_F_eq rfl rfl
theorem ent_X11_isRubber (a0 : Nat) (h : AH) : F_X11_isRubber [.ref a0] h = F_X11_isRubber_b0 [some (.ref a0)] [] h := mk_F_eq rfl rfl
theorem ent_X14_isRubber (a0 : Nat) (h : AH) : F_X14_isRubber [.ref a0] h = F_X14_isRubber_b0 [some (.ref a0)] [] h := mk_F_eq rfl rfl
theorem ent_X4_begin (a0 : Nat) (a1 : Nat) (h : AH) : F_X4_begin [.ref a0, .ref a1] h = F_X4_begin_b0 [some (.ref a0), some (.ref a1), none] [] h := mk_F_eq rfl rfl
theorem ent_X1_kitchen (a0 : Nat) (a1 : Int32) (h : AH) : F_X1_kitchen [.ref a0, .int a1] h = F_X1_kitchen_b0 [some (.ref a0), some (.int a1), none] [] h := mk_F_eq rfl rfl
theorem ent_X1_fault (a0 : Nat) (h : AH) : F_X1_fault [.ref a0] h = F_X1_fault_b0 [some (.ref a0)] [] h := mk_F_eq rfl rfl
theorem ent_X1_where (a0 : Nat) (h : AH) : F_X1_where [.ref a0] h = F_X1_where_b0 [some (.ref a0)] [] h := mk_F_eq rfl rfl
theorem ent_X12_kind (a0 : Nat) (h : AH) : F_X12_kind [.ref a0] h = F_X12_kind_b0 [some (.ref a0)] [] h := mk_F_eq rfl rfl
theorem ent_X13_kind (a0 : Nat) (h : AH) : F_X13_kind [.ref a0] h = F_X13_kind_b0 [some (.ref a0)] [] h := mk_F_eq rfl rfl
theorem ent_X14_kind (a0 : Nat) (h : AH) : F_X14_kind [.ref a0] h = F_X14_kind_b0 [some (.ref a0)] [] h := mk_F_eq rfl rfl
theorem ent_X1_isBone (a0 : Nat) (a1 : Int32) (h : AH) : F_X1_isBone [.ref a0, .int a1] h = F_X1_isBone_b0 [some (.ref a0), some (.int a1)] [] h := mk_F_eq rfl rfl
theorem ent_X1_bone (a0 : Nat) (a1 : Int32) (a2 : Int32) (h : AH) : F_X1_bone [.ref a0, .int a1, .int a2] h = F_X1_bone_b0 [some (.ref a0), some (.int a1), some (.int a2), none] [] h := mk_F_eq rfl rfl
theorem ent_X11_thick (a0 : Nat) (a1 : Int32) (a2 : Int32) (h : AH) : F_X11_thick [.ref a0, .int a1, .int a2] h = F_X11_thick_b0 [some (.ref a0), some (.int a1), some (.int a2)] [] h := mk_F_eq rfl rfl
theorem ent_X1_isPlace (a0 : Nat) (a1 : Int32) (a2 : Int32) (a3 : Int32) (h : AH) : F_X1_isPlace [.ref a0, .int a1, .int a2, .int a3] h = F_X1_isPlace_b0 [some (.ref a0), some (.int a1), some (.int a2), some (.int a3)] [] h := mk_F_eq rfl rfl
theorem ent_X1_thick (a0 : Nat) (a1 : Int32) (a2 : Int32) (a3 : Int32) (h : AH) : F_X1_thick [.ref a0, .int a1, .int a2, .int a3] h = F_X1_thick_b0 [some (.ref a0), some (.int a1), some (.int a2), some (.int a3)] [] h := mk_F_eq rfl rfl
theorem ent_X16_kind (a0 : Nat) (h : AH) : F_X16_kind [.ref a0] h = F_X16_kind_b0 [some (.ref a0)] [] h := mk_F_eq rfl rfl
theorem ent_X17_kind (a0 : Nat) (h : AH) : F_X17_kind [.ref a0] h = F_X17_kind_b0 [some (.ref a0)] [] h := mk_F_eq rfl rfl
theorem ent_X18_kind (a0 : Nat) (h : AH) : F_X18_kind [.ref a0] h = F_X18_kind_b0 [some (.ref a0)] [] h := mk_F_eq rfl rfl
theorem ent_X19_kind (a0 : Nat) (h : AH) : F_X19_kind [.ref a0] h = F_X19_kind_b0 [some (.ref a0)] [] h := mk_F_eq rfl rfl
theorem ent_X1_isPerson (a0 : Nat) (a1 : Int32) (h : AH) : F_X1_isPerson [.ref a0, .int a1] h = F_X1_isPerson_b0 [some (.ref a0), some (.int a1)] [] h := mk_F_eq rfl rfl
theorem ent_X1_person (a0 : Nat) (a1 : Int32) (a2 : Int32) (h : AH) : F_X1_person [.ref a0, .int a1, .int a2] h = F_X1_person_b0 [some (.ref a0), some (.int a1), some (.int a2), none] [] h := mk_F_eq rfl rfl
theorem ent_X5_lay (a0 : Nat) (a1 : Nat) (a2 : Nat) (a3 : Int32) (a4 : Int32) (h : AH) : F_X5_lay [.ref a0, .ref a1, .ref a2, .int a3, .int a4] h = F_X5_lay_b0 [some (.ref a0), some (.ref a1), some (.ref a2), some (.int a3), some (.int a4)] [] h := mk_F_eq rfl rfl
theorem ent_X1_layDried (a0 : Nat) (a1 : Int32) (a2 : Int32) (h : AH) : F_X1_layDried [.ref a0, .int a1, .int a2] h = F_X1_layDried_b0 [some (.ref a0), some (.int a1), some (.int a2)] [] h := mk_F_eq rfl rfl
theorem ent_X1_lay (a0 : Nat) (a1 : Int32) (h : AH) : F_X1_lay [.ref a0, .int a1] h = F_X1_lay_b0 [some (.ref a0), some (.int a1)] [] h := mk_F_eq rfl rfl
theorem ent_X15_presses (a0 : Nat) (h : AH) : F_X15_presses [.ref a0] h = F_X15_presses_b0 [some (.ref a0)] [] h := mk_F_eq rfl rfl
theorem ent_X19_presses (a0 : Nat) (h : AH) : F_X19_presses [.ref a0] h = F_X19_presses_b0 [some (.ref a0)] [] h := mk_F_eq rfl rfl
theorem ent_X5_strength (a0 : Nat) (a1 : Int32) (a2 : Int32) (a3 : Nat) (h : AH) : F_X5_strength [.ref a0, .int a1, .int a2, .ref a3] h = F_X5_strength_b0 [some (.ref a0), some (.int a1), some (.int a2), some (.ref a3), none] [] h := mk_F_eq rfl rfl
theorem ent_X1_strength (a0 : Nat) (a1 : Int32) (a2 : Int32) (a3 : Int32) (a4 : Int32) (h : AH) : F_X1_strength [.ref a0, .int a1, .int a2, .int a3, .int a4] h = F_X1_strength_b0 [some (.ref a0), some (.int a1), some (.int a2), some (.int a3), some (.int a4)] [] h := mk_F_eq rfl rfl
theorem ent_X5_hold (a0 : Nat) (a1 : Nat) (a2 : Int32) (a3 : Nat) (a4 : Int32) (a5 : Int32) (h : AH) : F_X5_hold [.ref a0, .ref a1, .int a2, .ref a3, .int a4, .int a5] h = F_X5_hold_b0 [some (.ref a0), some (.ref a1), some (.int a2), some (.ref a3), some (.int a4), some (.int a5)] [] h := mk_F_eq rfl rfl
theorem ent_X1_layPull (a0 : Nat) (a1 : Int32) (a2 : Int32) (a3 : Int32) (a4 : Int32) (a5 : Int32) (a6 : Int32) (h : AH) : F_X1_layPull [.ref a0, .int a1, .int a2, .int a3, .int a4, .int a5, .int a6] h = F_X1_layPull_b0 [some (.ref a0), some (.int a1), some (.int a2), some (.int a3), some (.int a4), some (.int a5), some (.int a6)] [] h := mk_F_eq rfl rfl
theorem ent_X1_holdWhy (a0 : Nat) (a1 : Int32) (a2 : Int32) (a3 : Int32) (a4 : Int32) (h : AH) : F_X1_holdWhy [.ref a0, .int a1, .int a2, .int a3, .int a4] h = F_X1_holdWhy_b0 [some (.ref a0), some (.int a1), some (.int a2), some (.int a3), some (.int a4)] [] h := mk_F_eq rfl rfl
theorem ent_X1_isPair (a0 : Nat) (a1 : Int32) (a2 : Int32) (h : AH) : F_X1_isPair [.ref a0, .int a1, .int a2] h = F_X1_isPair_b0 [some (.ref a0), some (.int a1), some (.int a2)] [] h := mk_F_eq rfl rfl
theorem ent_X1_pullWhy (a0 : Nat) (a1 : Int32) (a2 : Int32) (a3 : Int32) (a4 : Int32) (a5 : Int32) (a6 : Int32) (h : AH) : F_X1_pullWhy [.ref a0, .int a1, .int a2, .int a3, .int a4, .int a5, .int a6] h = F_X1_pullWhy_b0 [some (.ref a0), some (.int a1), some (.int a2), some (.int a3), some (.int a4), some (.int a5), some (.int a6)] [] h := mk_F_eq rfl rfl
theorem ent_X15_mustMove (a0 : Nat) (h : AH) : F_X15_mustMove [.ref a0] h = F_X15_mustMove_b0 [some (.ref a0)] [] h := mk_F_eq rfl rfl
theorem ent_X18_mustMove (a0 : Nat) (h : AH) : F_X18_mustMove [.ref a0] h = F_X18_mustMove_b0 [some (.ref a0)] [] h := mk_F_eq rfl rfl
theorem ent_X5_doesMove (a0 : Nat) (a1 : Int32) (h : AH) : F_X5_doesMove [.ref a0, .int a1] h = F_X5_doesMove_b0 [some (.ref a0), some (.int a1)] [] h := mk_F_eq rfl rfl
theorem ent_X5_strain (a0 : Nat) (a1 : Int32) (a2 : Int32) (h : AH) : F_X5_strain [.ref a0, .int a1, .int a2] h = F_X5_strain_b0 [some (.ref a0), some (.int a1), some (.int a2), none] [] h := mk_F_eq rfl rfl
theorem ent_X1_strain (a0 : Nat) (a1 : Int32) (a2 : Int32) (a3 : Int32) (a4 : Int32) (a5 : Int32) (a6 : Int32) (a7 : Int32) (a8 : Int32) (h : AH) : F_X1_strain [.ref a0, .int a1, .int a2, .int a3, .int a4, .int a5, .int a6, .int a7, .int a8] h = F_X1_strain_b0 [some (.ref a0), some (.int a1), some (.int a2), some (.int a3), some (.int a4), some (.int a5), some (.int a6), some (.int a7), some (.int a8), none] [] h := mk_F_eq rfl rfl
theorem ent_X5_compare (a0 : Nat) (a1 : Int32) (a2 : Int32) (a3 : Int32) (a4 : Int32) (h : AH) : F_X5_compare [.ref a0, .int a1, .int a2, .int a3, .int a4] h = F_X5_compare_b0 [some (.ref a0), some (.int a1), some (.int a2), some (.int a3), some (.int a4)] [] h := mk_F_eq rfl rfl
theorem ent_X5_weakest (a0 : Nat) (a1 : Int32) (h : AH) : F_X5_weakest [.ref a0, .int a1] h = F_X5_weakest_b0 [some (.ref a0), some (.int a1), none, none] [] h := mk_F_eq rfl rfl
theorem ent_X5_comes (a0 : Nat) (h : AH) : F_X5_comes [.ref a0] h = F_X5_comes_b0 [some (.ref a0), none, none, none] [] h := mk_F_eq rfl rfl
theorem ent_X1_pulled (a0 : Nat) (a1 : Int32) (a2 : Int32) (a3 : Int32) (a4 : Int32) (a5 : Int32) (a6 : Int32) (h : AH) : F_X1_pulled [.ref a0, .int a1, .int a2, .int a3, .int a4, .int a5, .int a6] h = F_X1_pulled_b0 [some (.ref a0), some (.int a1), some (.int a2), some (.int a3), some (.int a4), some (.int a5), some (.int a6), none] [] h := mk_F_eq rfl rfl
theorem ent_X1_breaksAt (a0 : Nat) (a1 : Int32) (a2 : Int32) (a3 : Int32) (a4 : Int32) (a5 : Int32) (a6 : Int32) (h : AH) : F_X1_breaksAt [.ref a0, .int a1, .int a2, .int a3, .int a4, .int a5, .int a6] h = F_X1_breaksAt_b0 [some (.ref a0), some (.int a1), some (.int a2), some (.int a3), some (.int a4), some (.int a5), some (.int a6), none] [] h := mk_F_eq rfl rfl
theorem ent_X5_flaw (a0 : Nat) (a1 : Int32) (a2 : Int32) (h : AH) : F_X5_flaw [.ref a0, .int a1, .int a2] h = F_X5_flaw_b0 [some (.ref a0), some (.int a1), some (.int a2)] [] h := mk_F_eq rfl rfl
theorem ent_X1_flawed (a0 : Nat) (a1 : Int32) (a2 : Int32) (a3 : Int32) (a4 : Int32) (a5 : Int32) (a6 : Int32) (a7 : Int32) (a8 : Int32) (h : AH) : F_X1_flawed [.ref a0, .int a1, .int a2, .int a3, .int a4, .int a5, .int a6, .int a7, .int a8] h = F_X1_flawed_b0 [some (.ref a0), some (.int a1), some (.int a2), some (.int a3), some (.int a4), some (.int a5), some (.int a6), some (.int a7), some (.int a8), none] [] h := mk_F_eq rfl rfl
theorem ent_X1_dividing (d9 : Nat) (a0 : Int64) (a1 : Int64) (h : AH) : F_X1_dividing (d9 + 1) [.long a0, .long a1] h = F_X1_dividing_b0 (F_X1_dividing d9) [some (.long a0), none, some (.long a1), none] [] h := mk_F_eq rfl rfl
theorem ent_X1_lowest (a0 : Int64) (a1 : Int64) (a2 : Int32) (h : AH) : F_X1_lowest [.long a0, .long a1, .int a2] h = F_X1_lowest_b0 [some (.long a0), none, some (.long a1), none, some (.int a2)] [] h := mk_F_eq rfl rfl
theorem ent_X11_places (a0 : Nat) (h : AH) : F_X11_places [.ref a0] h = F_X11_places_b0 [some (.ref a0)] [] h := mk_F_eq rfl rfl
theorem ent_X5_all (a0 : Nat) (h : AH) : F_X5_all [.ref a0] h = F_X5_all_b0 [some (.ref a0)] [] h := mk_F_eq rfl rfl
theorem ent_X5_odds (a0 : Nat) (a1 : Int32) (h : AH) : F_X5_odds [.ref a0, .int a1] h = F_X5_odds_b0 [some (.ref a0), some (.int a1), none, none, none, none] [] h := mk_F_eq rfl rfl
theorem ent_X1_odds (a0 : Nat) (a1 : Int32) (a2 : Int32) (a3 : Int32) (a4 : Int32) (a5 : Int32) (a6 : Int32) (a7 : Int32) (a8 : Int32) (h : AH) : F_X1_odds [.ref a0, .int a1, .int a2, .int a3, .int a4, .int a5, .int a6, .int a7, .int a8] h = F_X1_odds_b0 [some (.ref a0), some (.int a1), some (.int a2), some (.int a3), some (.int a4), some (.int a5), some (.int a6), some (.int a7), some (.int a8), none] [] h := mk_F_eq rfl rfl
theorem ent_X6_can (a0 : Nat) (a1 : Int32) (h : AH) : F_X6_can [.ref a0, .int a1] h = F_X6_can_b0 [some (.ref a0), some (.int a1)] [] h := mk_F_eq rfl rfl
theorem ent_X6_told (a0 : Int32) (h : AH) : F_X6_told [.int a0] h = F_X6_told_b0 [some (.int a0)] [] h := mk_F_eq rfl rfl
theorem ent_X1_best (a0 : Nat) (a1 : Int32) (a2 : Int32) (a3 : Int32) (a4 : Int32) (h : AH) : F_X1_best [.ref a0, .int a1, .int a2, .int a3, .int a4] h = F_X1_best_b0 [some (.ref a0), some (.int a1), some (.int a2), some (.int a3), some (.int a4), none, none, none, none, none, none] [] h := mk_F_eq rfl rfl
theorem ent_X6_lay (a0 : Nat) (a1 : Nat) (a2 : Nat) (a3 : Nat) (h : AH) : F_X6_lay [.ref a0, .ref a1, .ref a2, .ref a3] h = F_X6_lay_b0 [some (.ref a0), some (.ref a1), some (.ref a2), some (.ref a3), none, none] [] h := mk_F_eq rfl rfl
theorem ent_X1_layGame (a0 : Nat) (a1 : Int32) (a2 : Int32) (a3 : Int32) (h : AH) : F_X1_layGame [.ref a0, .int a1, .int a2, .int a3] h = F_X1_layGame_b0 [some (.ref a0), some (.int a1), some (.int a2), some (.int a3)] [] h := mk_F_eq rfl rfl
theorem ent_X6_isRest (a0 : Nat) (a1 : Int32) (a2 : Int32) (h : AH) : F_X6_isRest [.ref a0, .int a1, .int a2] h = F_X6_isRest_b0 [some (.ref a0), some (.int a1), some (.int a2), none, none] [] h := mk_F_eq rfl rfl
theorem ent_X6_seekRests (a0 : Nat) (h : AH) : F_X6_seekRests [.ref a0] h = F_X6_seekRests_b0 [some (.ref a0), none, none] [] h := mk_F_eq rfl rfl
theorem ent_X1_rests (a0 : Nat) (a1 : Int32) (a2 : Int32) (a3 : Int32) (h : AH) : F_X1_rests [.ref a0, .int a1, .int a2, .int a3] h = F_X1_rests_b0 [some (.ref a0), some (.int a1), some (.int a2), some (.int a3)] [] h := mk_F_eq rfl rfl
theorem ent_X1_rest (a0 : Nat) (a1 : Int32) (a2 : Int32) (a3 : Int32) (h : AH) : F_X1_rest [.ref a0, .int a1, .int a2, .int a3] h = F_X1_rest_b0 [some (.ref a0), some (.int a1), some (.int a2), some (.int a3)] [] h := mk_F_eq rfl rfl
theorem ent_X6_sure (a0 : Nat) (h : AH) : F_X6_sure [.ref a0] h = F_X6_sure_b0 [some (.ref a0), none, none, none, none, none, none] [] h := mk_F_eq rfl rfl
theorem ent_X1_sure (a0 : Nat) (a1 : Int32) (a2 : Int32) (a3 : Int32) (a4 : Int32) (h : AH) : F_X1_sure [.ref a0, .int a1, .int a2, .int a3, .int a4] h = F_X1_sure_b0 [some (.ref a0), some (.int a1), some (.int a2), some (.int a3), some (.int a4)] [] h := mk_F_eq rfl rfl
theorem ent_X15_hold (a0 : Nat) (a1 : Nat) (a2 : Int32) (h : AH) : F_X15_hold [.ref a0, .ref a1, .int a2] h = F_X15_hold_b0 [some (.ref a0), some (.ref a1), some (.int a2)] [] h := mk_F_eq rfl rfl
theorem ent_X5_asTold (a0 : Nat) (a1 : Nat) (a2 : Nat) (h : AH) : F_X5_asTold [.ref a0, .ref a1, .ref a2] h = F_X5_asTold_b0 [some (.ref a0), some (.ref a1), some (.ref a2)] [] h := mk_F_eq rfl rfl
theorem ent_X1_curveOf (a0 : Nat) (a1 : Int32) (a2 : Int32) (a3 : Int32) (a4 : Int32) (h : AH) : F_X1_curveOf [.ref a0, .int a1, .int a2, .int a3, .int a4] h = F_X1_curveOf_b0 [some (.ref a0), some (.int a1), some (.int a2), some (.int a3), some (.int a4)] [] h := mk_F_eq rfl rfl
theorem ent_X1_curve (a0 : Nat) (a1 : Int32) (a2 : Int32) (a3 : Int32) (a4 : Int32) (a5 : Int32) (h : AH) : F_X1_curve [.ref a0, .int a1, .int a2, .int a3, .int a4, .int a5] h = F_X1_curve_b0 [some (.ref a0), some (.int a1), some (.int a2), some (.int a3), some (.int a4), some (.int a5)] [] h := mk_F_eq rfl rfl
theorem ent_X1_bestDay (a0 : Nat) (a1 : Int32) (a2 : Int32) (a3 : Int32) (h : AH) : F_X1_bestDay [.ref a0, .int a1, .int a2, .int a3] h = F_X1_bestDay_b0 [some (.ref a0), some (.int a1), some (.int a2), some (.int a3), none, none] [] h := mk_F_eq rfl rfl
theorem ent_X15_chooses (a0 : Nat) (a1 : Nat) (a2 : Int64) (a3 : Int64) (h : AH) : F_X15_chooses [.ref a0, .ref a1, .long a2, .long a3] h = F_X15_chooses_b0 [some (.ref a0), some (.ref a1), some (.long a2), none, some (.long a3), none] [] h := mk_F_eq rfl rfl
theorem ent_X11_all (a0 : Nat) (a1 : Int32) (h : AH) : F_X11_all [.ref a0, .int a1] h = F_X11_all_b0 [some (.ref a0), some (.int a1), none, none] [] h := mk_F_eq rfl rfl
theorem ent_X17_chooses (a0 : Nat) (a1 : Nat) (a2 : Int64) (a3 : Int64) (h : AH) : F_X17_chooses [.ref a0, .ref a1, .long a2, .long a3] h = F_X17_chooses_b0 [some (.ref a0), some (.ref a1), some (.long a2), none, some (.long a3), none] [] h := mk_F_eq rfl rfl
theorem ent_X1_oddsOn (a0 : Nat) (a1 : Int32) (a2 : Int32) (a3 : Int32) (a4 : Int32) (h : AH) : F_X1_oddsOn [.ref a0, .int a1, .int a2, .int a3, .int a4] h = F_X1_oddsOn_b0 [some (.ref a0), some (.int a1), some (.int a2), some (.int a3), some (.int a4), none, none] [] h := mk_F_eq rfl rfl
theorem ent_X1_byLaw (a0 : Nat) (a1 : Int32) (a2 : Int32) (a3 : Int32) (a4 : Int32) (h : AH) : F_X1_byLaw [.ref a0, .int a1, .int a2, .int a3, .int a4] h = F_X1_byLaw_b0 [some (.ref a0), some (.int a1), some (.int a2), some (.int a3), some (.int a4), none, none, none, none] [] h := mk_F_eq rfl rfl
theorem ent_X1_lawOdds (a0 : Nat) (a1 : Int32) (a2 : Int32) (a3 : Int32) (a4 : Int32) (a5 : Int32) (h : AH) : F_X1_lawOdds [.ref a0, .int a1, .int a2, .int a3, .int a4, .int a5] h = F_X1_lawOdds_b0 [some (.ref a0), some (.int a1), some (.int a2), some (.int a3), some (.int a4), some (.int a5)] [] h := mk_F_eq rfl rfl
theorem ent_X1_fairest (a0 : Nat) (a1 : Int32) (a2 : Int32) (a3 : Int32) (h : AH) : F_X1_fairest [.ref a0, .int a1, .int a2, .int a3] h = F_X1_fairest_b0 [some (.ref a0), some (.int a1), some (.int a2), some (.int a3), none, none, none, none] [] h := mk_F_eq rfl rfl
theorem ent_X1_weekWhy (a0 : Nat) (a1 : Int32) (h : AH) : F_X1_weekWhy [.ref a0, .int a1] h = F_X1_weekWhy_b0 [some (.ref a0), some (.int a1)] [] h := mk_F_eq rfl rfl
theorem ent_X7_canBe (a0 : Nat) (a1 : Int32) (a2 : Int32) (h : AH) : F_X7_canBe [.ref a0, .int a1, .int a2] h = F_X7_canBe_b0 [some (.ref a0), some (.int a1), some (.int a2)] [] h := mk_F_eq rfl rfl
theorem ent_X7_isEven (a0 : Nat) (h : AH) : F_X7_isEven [.ref a0] h = F_X7_isEven_b0 [some (.ref a0), none, none] [] h := mk_F_eq rfl rfl
theorem ent_X7_tries (d9 : Nat) (a0 : Nat) (a1 : Int32) (h : AH) : F_X7_tries (d9 + 1) [.ref a0, .int a1] h = F_X7_tries_b0 (F_X7_tries d9) [some (.ref a0), some (.int a1), none, none] [] h := mk_F_eq rfl rfl
theorem ent_X7_find (a0 : Nat) (a1 : Int32) (a2 : Int32) (h : AH) : F_X7_find [.ref a0, .int a1, .int a2] h = F_X7_find_b0 [some (.ref a0), some (.int a1), some (.int a2), none] [] h := mk_F_eq rfl rfl
theorem ent_X1_turnsOf (a0 : Nat) (a1 : Int32) (h : AH) : F_X1_turnsOf [.ref a0, .int a1] h = F_X1_turnsOf_b0 [some (.ref a0), some (.int a1), none] [] h := mk_F_eq rfl rfl
theorem ent_X7_at (a0 : Nat) (a1 : Int32) (h : AH) : F_X7_at [.ref a0, .int a1] h = F_X7_at_b0 [some (.ref a0), some (.int a1)] [] h := mk_F_eq rfl rfl
theorem ent_X1_turnAt (a0 : Nat) (a1 : Int32) (a2 : Int32) (h : AH) : F_X1_turnAt [.ref a0, .int a1, .int a2] h = F_X1_turnAt_b0 [some (.ref a0), some (.int a1), some (.int a2), none] [] h := mk_F_eq rfl rfl
theorem ent_X1_tail (a0 : Int32) (a1 : Int32) (h : AH) : F_X1_tail [.int a0, .int a1] h = F_X1_tail_b0 [some (.int a0), some (.int a1), none, none, none, none, none] [] h := mk_F_eq rfl rfl
theorem ent_X1_hand (a0 : Nat) (a1 : Int32) (a2 : Int32) (h : AH) : F_X1_hand [.ref a0, .int a1, .int a2] h = F_X1_hand_b0 [some (.ref a0), some (.int a1), some (.int a2), none] [] h := mk_F_eq rfl rfl
theorem ent_X1_side (a0 : Nat) (a1 : Int32) (h : AH) : F_X1_side [.ref a0, .int a1] h = F_X1_side_b0 [some (.ref a0), some (.int a1)] [] h := mk_F_eq rfl rfl
theorem ent_X1_known (a0 : Nat) (h : AH) : F_X1_known [.ref a0] h = F_X1_known_b0 [some (.ref a0), none, none] [] h := mk_F_eq rfl rfl
theorem ent_X1_hens (a0 : Nat) (a1 : Int32) (h : AH) : F_X1_hens [.ref a0, .int a1] h = F_X1_hens_b0 [some (.ref a0), some (.int a1), none] [] h := mk_F_eq rfl rfl
theorem ent_X1_likely (a0 : Int32) (a1 : Int32) (a2 : Int32) (h : AH) : F_X1_likely [.int a0, .int a1, .int a2] h = F_X1_likely_b0 [some (.int a0), some (.int a1), some (.int a2), none, none, none] [] h := mk_F_eq rfl rfl
theorem ent_X1_thumbs (a0 : Nat) (a1 : Int32) (a2 : Int32) (h : AH) : F_X1_thumbs [.ref a0, .int a1, .int a2] h = F_X1_thumbs_b0 [some (.ref a0), some (.int a1), some (.int a2), none, none, none, none, none] [] h := mk_F_eq rfl rfl
theorem ent_X1_worthOf (a0 : Nat) (a1 : Int32) (h : AH) : F_X1_worthOf [.ref a0, .int a1] h = F_X1_worthOf_b0 [some (.ref a0), some (.int a1), none, none] [] h := mk_F_eq rfl rfl
theorem ent_X1_let (a0 : Nat) (a1 : Int32) (a2 : Int32) (h : AH) : F_X1_let [.ref a0, .int a1, .int a2] h = F_X1_let_b0 [some (.ref a0), some (.int a1), some (.int a2), none, none] [] h := mk_F_eq rfl rfl
theorem ent_X1_worth (a0 : Nat) (a1 : Int32) (h : AH) : F_X1_worth [.ref a0, .int a1] h = F_X1_worth_b0 [some (.ref a0), some (.int a1)] [] h := mk_F_eq rfl rfl
theorem ent_X1_tryKnob (a0 : Nat) (a1 : Int32) (a2 : Int32) (a3 : Int32) (a4 : Int32) (h : AH) : F_X1_tryKnob [.ref a0, .int a1, .int a2, .int a3, .int a4] h = F_X1_tryKnob_b0 [some (.ref a0), some (.int a1), some (.int a2), some (.int a3), some (.int a4), none] [] h := mk_F_eq rfl rfl
theorem ent_X1_seekKnob (a0 : Nat) (a1 : Int32) (h : AH) : F_X1_seekKnob [.ref a0, .int a1] h = F_X1_seekKnob_b0 [some (.ref a0), some (.int a1), none, none, none] [] h := mk_F_eq rfl rfl
theorem ent_X1_knob (a0 : Nat) (a1 : Int32) (h : AH) : F_X1_knob [.ref a0, .int a1] h = F_X1_knob_b0 [some (.ref a0), some (.int a1)] [] h := mk_F_eq rfl rfl
theorem ent_X1_owners (a0 : Nat) (a1 : Int32) (h : AH) : F_X1_owners [.ref a0, .int a1] h = F_X1_owners_b0 [some (.ref a0), some (.int a1)] [] h := mk_F_eq rfl rfl
theorem ent_X4_draw (a0 : Nat) (h : AH) : F_X4_draw [.ref a0] h = F_X4_draw_b0 [some (.ref a0)] [] h := mk_F_eq rfl rfl
theorem ent_X1_drawFlaw (a0 : Nat) (a1 : Nat) (h : AH) : F_X1_drawFlaw [.ref a0, .ref a1] h = F_X1_drawFlaw_b0 [some (.ref a0), some (.ref a1), none, none] [] h := mk_F_eq rfl rfl
theorem ent_X1_goThrough (a0 : Nat) (a1 : Int32) (a2 : Int32) (h : AH) : F_X1_goThrough [.ref a0, .int a1, .int a2] h = F_X1_goThrough_b0 [some (.ref a0), some (.int a1), some (.int a2), none, none, none, none, none] [] h := mk_F_eq rfl rfl
theorem ent_X1_wins (a0 : Nat) (a1 : Int32) (a2 : Int32) (a3 : Int32) (h : AH) : F_X1_wins [.ref a0, .int a1, .int a2, .int a3] h = F_X1_wins_b0 [some (.ref a0), some (.int a1), some (.int a2), some (.int a3)] [] h := mk_F_eq rfl rfl
theorem ent_X1_spoilt (a0 : Nat) (a1 : Int32) (a2 : Int32) (a3 : Int32) (h : AH) : F_X1_spoilt [.ref a0, .int a1, .int a2, .int a3] h = F_X1_spoilt_b0 [some (.ref a0), some (.int a1), some (.int a2), some (.int a3)] [] h := mk_F_eq rfl rfl
theorem ent_X4_become (a0 : Nat) (a1 : Nat) (h : AH) : F_X4_become [.ref a0, .ref a1] h = F_X4_become_b0 [some (.ref a0), some (.ref a1)] [] h := mk_F_eq rfl rfl
theorem ent_X1_done (a0 : Nat) (h : AH) : F_X1_done [.ref a0] h = F_X1_done_b0 [some (.ref a0), none, none] [] h := mk_F_eq rfl rfl
theorem ent_X1_note (a0 : Nat) (h : AH) : F_X1_note [.ref a0] h = F_X1_note_b0 [some (.ref a0)] [] h := mk_F_eq rfl rfl
theorem ent_X1_yes (a0 : Nat) (a1 : Int32) (h : AH) : F_X1_yes [.ref a0, .int a1] h = F_X1_yes_b0 [some (.ref a0), some (.int a1)] [] h := mk_F_eq rfl rfl
theorem ent_X1_dry (a0 : Nat) (a1 : Int32) (h : AH) : F_X1_dry [.ref a0, .int a1] h = F_X1_dry_b0 [some (.ref a0), some (.int a1), none] [] h := mk_F_eq rfl rfl
theorem ent_X1_boil (a0 : Nat) (a1 : Int32) (h : AH) : F_X1_boil [.ref a0, .int a1] h = F_X1_boil_b0 [some (.ref a0), some (.int a1)] [] h := mk_F_eq rfl rfl
theorem ent_X11_isPulled (a0 : Nat) (h : AH) : F_X11_isPulled [.ref a0] h = F_X11_isPulled_b0 [some (.ref a0)] [] h := mk_F_eq rfl rfl
theorem ent_X13_isPulled (a0 : Nat) (h : AH) : F_X13_isPulled [.ref a0] h = F_X13_isPulled_b0 [some (.ref a0)] [] h := mk_F_eq rfl rfl
theorem ent_X1_pull (a0 : Nat) (a1 : Int32) (a2 : Int32) (a3 : Int32) (a4 : Int32) (a5 : Int32) (a6 : Int32) (h : AH) : F_X1_pull [.ref a0, .int a1, .int a2, .int a3, .int a4, .int a5, .int a6] h = F_X1_pull_b0 [some (.ref a0), some (.int a1), some (.int a2), some (.int a3), some (.int a4), some (.int a5), some (.int a6), none, none] [] h := mk_F_eq rfl rfl
theorem ent_X1_seed (a0 : Nat) (a1 : Int32) (h : AH) : F_X1_seed [.ref a0, .int a1] h = F_X1_seed_b0 [some (.ref a0), some (.int a1)] [] h := mk_F_eq rfl rfl
theorem ent_X1_undo (a0 : Nat) (h : AH) : F_X1_undo [.ref a0] h = F_X1_undo_b0 [some (.ref a0)] [] h := mk_F_eq rfl rfl
theorem ent_X1_mark (a0 : Nat) (h : AH) : F_X1_mark [.ref a0] h = F_X1_mark_b0 [some (.ref a0)] [] h := mk_F_eq rfl rfl
theorem ent_X1_back (a0 : Nat) (a1 : Int32) (h : AH) : F_X1_back [.ref a0, .int a1] h = F_X1_back_b0 [some (.ref a0), some (.int a1)] [] h := mk_F_eq rfl rfl
theorem ent_X1_size (a0 : Nat) (a1 : Int32) (h : AH) : F_X1_size [.ref a0, .int a1] h = F_X1_size_b0 [some (.ref a0), some (.int a1)] [] h := mk_F_eq rfl rfl
theorem ent_X1_trouble (a0 : Nat) (h : AH) : F_X1_trouble [.ref a0] h = F_X1_trouble_b0 [some (.ref a0)] [] h := mk_F_eq rfl rfl
theorem ent_X20_init (a0 : Nat) (h : AH) : F_X20_init [.ref a0] h = F_X20_init_b0 [some (.ref a0)] [] h := mk_F_eq rfl rfl
theorem ent_X20_find (a0 : Nat) (a1 : Int64) (h : AH) : F_X20_find [.ref a0, .long a1] h = F_X20_find_b0 [some (.ref a0), some (.long a1), none, none] [] h := mk_F_eq rfl rfl
theorem ent_X20_many (a0 : Nat) (a1 : Int32) (a2 : Int32) (h : AH) : F_X20_many [.ref a0, .int a1, .int a2] h = F_X20_many_b0 [some (.ref a0), some (.int a1), some (.int a2)] [] h := mk_F_eq rfl rfl
theorem ent_X20_thickAt (a0 : Nat) (a1 : Int32) (a2 : Int32) (a3 : Int32) (h : AH) : F_X20_thickAt [.ref a0, .int a1, .int a2, .int a3] h = F_X20_thickAt_b0 [some (.ref a0), some (.int a1), some (.int a2), some (.int a3)] [] h := mk_F_eq rfl rfl
theorem ent_X20_holds (a0 : Nat) (a1 : Int32) (a2 : Int32) (a3 : Int32) (h : AH) : F_X20_holds [.ref a0, .int a1, .int a2, .int a3] h = F_X20_holds_b0 [some (.ref a0), some (.int a1), some (.int a2), some (.int a3)] [] h := mk_F_eq rfl rfl
theorem ent_X8_init (a0 : Nat) (h : AH) : F_X8_init [.ref a0] h = F_X8_init_b0 [some (.ref a0)] [] h := mk_F_eq rfl rfl
theorem ent_X8_thrown (a0 : Nat) (h : AH) : F_X8_thrown [.ref a0] h = F_X8_thrown_b0 [some (.ref a0)] [] h := mk_F_eq rfl rfl
theorem ent_X8_feed (a0 : Nat) (a1 : Int32) (a2 : Int32) (a3 : Int32) (a4 : Int32) (a5 : Int32) (h : AH) : F_X8_feed [.ref a0, .int a1, .int a2, .int a3, .int a4, .int a5] h = F_X8_feed_b0 [some (.ref a0), some (.int a1), some (.int a2), some (.int a3), some (.int a4), some (.int a5), none, none] [] h := mk_F_eq rfl rfl
theorem ent_X8_byteAt (a0 : Nat) (a1 : Int32) (h : AH) : F_X8_byteAt [.ref a0, .int a1] h = F_X8_byteAt_b0 [some (.ref a0), some (.int a1)] [] h := mk_F_eq rfl rfl
theorem ent_X8_isDigit (a0 : Int32) (h : AH) : F_X8_isDigit [.int a0] h = F_X8_isDigit_b0 [some (.int a0)] [] h := mk_F_eq rfl rfl
theorem ent_X8_isLetter (a0 : Int32) (h : AH) : F_X8_isLetter [.int a0] h = F_X8_isLetter_b0 [some (.int a0)] [] h := mk_F_eq rfl rfl
theorem ent_X8_goesOn (a0 : Nat) (h : AH) : F_X8_goesOn [.ref a0] h = F_X8_goesOn_b0 [some (.ref a0), none, none] [] h := mk_F_eq rfl rfl
theorem ent_X8_good (a0 : Nat) (a1 : Int32) (h : AH) : F_X8_good [.ref a0, .int a1] h = F_X8_good_b0 [some (.ref a0), some (.int a1)] [] h := mk_F_eq rfl rfl
theorem ent_X8_isSign (a0 : Nat) (a1 : Int32) (h : AH) : F_X8_isSign [.ref a0, .int a1] h = F_X8_isSign_b0 [some (.ref a0), some (.int a1)] [] h := mk_F_eq rfl rfl
theorem ent_X8_eatsSign (a0 : Nat) (a1 : Int32) (h : AH) : F_X8_eatsSign [.ref a0, .int a1] h = F_X8_eatsSign_b0 [some (.ref a0), some (.int a1), none] [] h := mk_F_eq rfl rfl
theorem ent_X8_flaw (a0 : Nat) (a1 : Int32) (h : AH) : F_X8_flaw [.ref a0, .int a1] h = F_X8_flaw_b0 [some (.ref a0), some (.int a1)] [] h := mk_F_eq rfl rfl
theorem ent_X8_wordOf (a0 : Nat) (h : AH) : F_X8_wordOf [.ref a0] h = F_X8_wordOf_b0 [some (.ref a0), none, none, none] [] h := mk_F_eq rfl rfl
theorem ent_X8_isWord (a0 : Nat) (a1 : Nat) (h : AH) : F_X8_isWord [.ref a0, .ref a1] h = F_X8_isWord_b0 [some (.ref a0), some (.ref a1)] [] h := mk_F_eq rfl rfl
theorem ent_X8_begins (a0 : Nat) (a1 : Int32) (a2 : Int32) (h : AH) : F_X8_begins [.ref a0, .int a1, .int a2] h = F_X8_begins_b0 [some (.ref a0), some (.int a1), some (.int a2)] [] h := mk_F_eq rfl rfl
theorem ent_X8_names (a0 : Nat) (a1 : Int64) (a2 : Int32) (a3 : Int32) (h : AH) : F_X8_names [.ref a0, .long a1, .int a2, .int a3] h = F_X8_names_b0 [some (.ref a0), some (.long a1), none, some (.int a2), some (.int a3)] [] h := mk_F_eq rfl rfl
theorem ent_X8_in (a0 : Int32) (a1 : Int32) (a2 : Int32) (h : AH) : F_X8_in [.int a0, .int a1, .int a2] h = F_X8_in_b0 [some (.int a0), some (.int a1), some (.int a2)] [] h := mk_F_eq rfl rfl
theorem ent_X8_bounded (a0 : Nat) (a1 : Int32) (a2 : Int32) (h : AH) : F_X8_bounded [.ref a0, .int a1, .int a2] h = F_X8_bounded_b0 [some (.ref a0), some (.int a1), some (.int a2)] [] h := mk_F_eq rfl rfl
theorem ent_X8_needs (a0 : Nat) (a1 : Nat) (h : AH) : F_X8_needs [.ref a0, .ref a1] h = F_X8_needs_b0 [some (.ref a0), some (.ref a1)] [] h := mk_F_eq rfl rfl
theorem ent_X8_readArm (a0 : Nat) (a1 : Int32) (h : AH) : F_X8_readArm [.ref a0, .int a1] h = F_X8_readArm_b0 [some (.ref a0), some (.int a1), none, none, none, none] [] h := mk_F_eq rfl rfl
theorem ent_X8_isName (a0 : Nat) (h : AH) : F_X8_isName [.ref a0] h = F_X8_isName_b0 [some (.ref a0)] [] h := mk_F_eq rfl rfl
theorem ent_X8_readFresh (a0 : Nat) (h : AH) : F_X8_readFresh [.ref a0] h = F_X8_readFresh_b0 [some (.ref a0), none, none] [] h := mk_F_eq rfl rfl
theorem ent_X8_readWhole (a0 : Nat) (a1 : Int32) (a2 : Int32) (h : AH) : F_X8_readWhole [.ref a0, .int a1, .int a2] h = F_X8_readWhole_b0 [some (.ref a0), some (.int a1), some (.int a2), none] [] h := mk_F_eq rfl rfl
theorem ent_X8_readPart (a0 : Nat) (a1 : Nat) (a2 : Int32) (a3 : Int32) (h : AH) : F_X8_readPart [.ref a0, .ref a1, .int a2, .int a3] h = F_X8_readPart_b0 [some (.ref a0), some (.ref a1), some (.int a2), some (.int a3)] [] h := mk_F_eq rfl rfl
theorem ent_X8_readBone (a0 : Nat) (h : AH) : F_X8_readBone [.ref a0] h = F_X8_readBone_b0 [some (.ref a0), none, none, none, none] [] h := mk_F_eq rfl rfl
theorem ent_X8_knownOne (a0 : Nat) (h : AH) : F_X8_knownOne [.ref a0] h = F_X8_knownOne_b0 [some (.ref a0), none] [] h := mk_F_eq rfl rfl
theorem ent_X8_readCheats (a0 : Nat) (h : AH) : F_X8_readCheats [.ref a0] h = F_X8_readCheats_b0 [some (.ref a0), none, none, none, none] [] h := mk_F_eq rfl rfl
theorem ent_X8_bit (a0 : Int32) (a1 : Int32) (h : AH) : F_X8_bit [.int a0, .int a1] h = F_X8_bit_b0 [some (.int a0), some (.int a1)] [] h := mk_F_eq rfl rfl
theorem ent_X8_readPerson (a0 : Nat) (h : AH) : F_X8_readPerson [.ref a0] h = F_X8_readPerson_b0 [some (.ref a0), none] [] h := mk_F_eq rfl rfl
theorem ent_X8_readFor (a0 : Nat) (h : AH) : F_X8_readFor [.ref a0] h = F_X8_readFor_b0 [some (.ref a0), none, none, none] [] h := mk_F_eq rfl rfl
theorem ent_X8_readKitchen (a0 : Nat) (h : AH) : F_X8_readKitchen [.ref a0] h = F_X8_readKitchen_b0 [some (.ref a0), none, none, none, none, none] [] h := mk_F_eq rfl rfl
theorem ent_X8_readPersonLine (a0 : Nat) (h : AH) : F_X8_readPersonLine [.ref a0] h = F_X8_readPersonLine_b0 [some (.ref a0), none, none, none, none, none, none, none] [] h := mk_F_eq rfl rfl
theorem ent_X8_readSide (a0 : Nat) (h : AH) : F_X8_readSide [.ref a0] h = F_X8_readSide_b0 [some (.ref a0), none] [] h := mk_F_eq rfl rfl
theorem ent_X8_readPiece (a0 : Nat) (h : AH) : F_X8_readPiece [.ref a0] h = F_X8_readPiece_b0 [some (.ref a0), none, none] [] h := mk_F_eq rfl rfl
theorem ent_X8_readWon (a0 : Nat) (h : AH) : F_X8_readWon [.ref a0] h = F_X8_readWon_b0 [some (.ref a0), none, none, none] [] h := mk_F_eq rfl rfl
theorem ent_X8_readLine (a0 : Nat) (h : AH) : F_X8_readLine [.ref a0] h = F_X8_readLine_b0 [some (.ref a0)] [] h := mk_F_eq rfl rfl
theorem ent_X8_readAll (a0 : Nat) (h : AH) : F_X8_readAll [.ref a0] h = F_X8_readAll_b0 [some (.ref a0), none] [] h := mk_F_eq rfl rfl
theorem ent_X8_refused (a0 : Nat) (a1 : Int32) (h : AH) : F_X8_refused [.ref a0, .int a1] h = F_X8_refused_b0 [some (.ref a0), some (.int a1)] [] h := mk_F_eq rfl rfl
theorem ent_X8_kitchen (a0 : Nat) (a1 : Int32) (h : AH) : F_X8_kitchen [.ref a0, .int a1] h = F_X8_kitchen_b0 [some (.ref a0), some (.int a1), none] [] h := mk_F_eq rfl rfl
theorem ent_X8_fault (a0 : Nat) (h : AH) : F_X8_fault [.ref a0] h = F_X8_fault_b0 [some (.ref a0)] [] h := mk_F_eq rfl rfl
theorem ent_X8_where (a0 : Nat) (h : AH) : F_X8_where [.ref a0] h = F_X8_where_b0 [some (.ref a0)] [] h := mk_F_eq rfl rfl
theorem ent_X8_isBone (a0 : Nat) (a1 : Int32) (h : AH) : F_X8_isBone [.ref a0, .int a1] h = F_X8_isBone_b0 [some (.ref a0), some (.int a1)] [] h := mk_F_eq rfl rfl
theorem ent_X8_bone (a0 : Nat) (a1 : Int32) (a2 : Int32) (h : AH) : F_X8_bone [.ref a0, .int a1, .int a2] h = F_X8_bone_b0 [some (.ref a0), some (.int a1), some (.int a2)] [] h := mk_F_eq rfl rfl
theorem ent_X8_isPlace (a0 : Nat) (a1 : Int32) (a2 : Int32) (a3 : Int32) (h : AH) : F_X8_isPlace [.ref a0, .int a1, .int a2, .int a3] h = F_X8_isPlace_b0 [some (.ref a0), some (.int a1), some (.int a2), some (.int a3)] [] h := mk_F_eq rfl rfl
theorem ent_X8_thick (a0 : Nat) (a1 : Int32) (a2 : Int32) (a3 : Int32) (h : AH) : F_X8_thick [.ref a0, .int a1, .int a2, .int a3] h = F_X8_thick_b0 [some (.ref a0), some (.int a1), some (.int a2), some (.int a3)] [] h := mk_F_eq rfl rfl
theorem ent_X8_isPerson (a0 : Nat) (a1 : Int32) (h : AH) : F_X8_isPerson [.ref a0, .int a1] h = F_X8_isPerson_b0 [some (.ref a0), some (.int a1)] [] h := mk_F_eq rfl rfl
theorem ent_X8_wonBy (a0 : Nat) (a1 : Int32) (h : AH) : F_X8_wonBy [.ref a0, .int a1] h = F_X8_wonBy_b0 [some (.ref a0), some (.int a1), none, none] [] h := mk_F_eq rfl rfl
theorem ent_X8_pullsOf (a0 : Nat) (a1 : Int32) (h : AH) : F_X8_pullsOf [.ref a0, .int a1] h = F_X8_pullsOf_b0 [some (.ref a0), some (.int a1), none, none] [] h := mk_F_eq rfl rfl
theorem ent_X8_person (a0 : Nat) (a1 : Int32) (a2 : Int32) (h : AH) : F_X8_person [.ref a0, .int a1, .int a2] h = F_X8_person_b0 [some (.ref a0), some (.int a1), some (.int a2)] [] h := mk_F_eq rfl rfl
theorem ent_X8_isChild (a0 : Nat) (a1 : Int32) (h : AH) : F_X8_isChild [.ref a0, .int a1] h = F_X8_isChild_b0 [some (.ref a0), some (.int a1)] [] h := mk_F_eq rfl rfl
theorem ent_X8_lays (a0 : Nat) (a1 : Int32) (a2 : Int32) (a3 : Int32) (a4 : Int32) (a5 : Int32) (a6 : Int32) (h : AH) : F_X8_lays [.ref a0, .int a1, .int a2, .int a3, .int a4, .int a5, .int a6] h = F_X8_lays_b0 [some (.ref a0), some (.int a1), some (.int a2), some (.int a3), some (.int a4), some (.int a5), some (.int a6)] [] h := mk_F_eq rfl rfl
theorem ent_X8_strengthAt (a0 : Nat) (a1 : Int32) (a2 : Int32) (h : AH) : F_X8_strengthAt [.ref a0, .int a1, .int a2] h = F_X8_strengthAt_b0 [some (.ref a0), some (.int a1), some (.int a2), none] [] h := mk_F_eq rfl rfl
theorem ent_X8_strength (a0 : Nat) (a1 : Int32) (a2 : Int32) (a3 : Int32) (a4 : Int32) (h : AH) : F_X8_strength [.ref a0, .int a1, .int a2, .int a3, .int a4] h = F_X8_strength_b0 [some (.ref a0), some (.int a1), some (.int a2), some (.int a3), some (.int a4)] [] h := mk_F_eq rfl rfl
theorem ent_X8_isPair (a0 : Nat) (a1 : Int32) (a2 : Int32) (h : AH) : F_X8_isPair [.ref a0, .int a1, .int a2] h = F_X8_isPair_b0 [some (.ref a0), some (.int a1), some (.int a2)] [] h := mk_F_eq rfl rfl
theorem ent_X8_refusesPull (a0 : Nat) (a1 : Int32) (a2 : Int32) (a3 : Int32) (a4 : Int32) (a5 : Int32) (h : AH) : F_X8_refusesPull [.ref a0, .int a1, .int a2, .int a3, .int a4, .int a5] h = F_X8_refusesPull_b0 [some (.ref a0), some (.int a1), some (.int a2), some (.int a3), some (.int a4), some (.int a5)] [] h := mk_F_eq rfl rfl
theorem ent_X8_strainAt (a0 : Nat) (a1 : Int32) (a2 : Int32) (h : AH) : F_X8_strainAt [.ref a0, .int a1, .int a2] h = F_X8_strainAt_b0 [some (.ref a0), some (.int a1), some (.int a2)] [] h := mk_F_eq rfl rfl
theorem ent_X8_strain (a0 : Nat) (a1 : Int32) (a2 : Int32) (a3 : Int32) (a4 : Int32) (a5 : Int32) (a6 : Int32) (a7 : Int32) (a8 : Int32) (h : AH) : F_X8_strain [.ref a0, .int a1, .int a2, .int a3, .int a4, .int a5, .int a6, .int a7, .int a8] h = F_X8_strain_b0 [some (.ref a0), some (.int a1), some (.int a2), some (.int a3), some (.int a4), some (.int a5), some (.int a6), some (.int a7), some (.int a8), none] [] h := mk_F_eq rfl rfl
theorem ent_X8_compares (a0 : Nat) (a1 : Int32) (a2 : Int32) (a3 : Int32) (a4 : Int32) (h : AH) : F_X8_compares [.ref a0, .int a1, .int a2, .int a3, .int a4] h = F_X8_compares_b0 [some (.ref a0), some (.int a1), some (.int a2), some (.int a3), some (.int a4), none, none, none, none] [] h := mk_F_eq rfl rfl
theorem ent_X8_worst (a0 : Nat) (a1 : Int32) (h : AH) : F_X8_worst [.ref a0, .int a1] h = F_X8_worst_b0 [some (.ref a0), some (.int a1), none, none] [] h := mk_F_eq rfl rfl
theorem ent_X8_comes (a0 : Nat) (h : AH) : F_X8_comes [.ref a0] h = F_X8_comes_b0 [some (.ref a0), none, none, none, none] [] h := mk_F_eq rfl rfl
theorem ent_X8_pulled (a0 : Nat) (a1 : Int32) (a2 : Int32) (a3 : Int32) (a4 : Int32) (a5 : Int32) (a6 : Int32) (h : AH) : F_X8_pulled [.ref a0, .int a1, .int a2, .int a3, .int a4, .int a5, .int a6] h = F_X8_pulled_b0 [some (.ref a0), some (.int a1), some (.int a2), some (.int a3), some (.int a4), some (.int a5), some (.int a6), none] [] h := mk_F_eq rfl rfl
theorem ent_X8_breaksAt (a0 : Nat) (a1 : Int32) (a2 : Int32) (a3 : Int32) (a4 : Int32) (a5 : Int32) (a6 : Int32) (h : AH) : F_X8_breaksAt [.ref a0, .int a1, .int a2, .int a3, .int a4, .int a5, .int a6] h = F_X8_breaksAt_b0 [some (.ref a0), some (.int a1), some (.int a2), some (.int a3), some (.int a4), some (.int a5), some (.int a6), none] [] h := mk_F_eq rfl rfl
theorem ent_X8_flawed (a0 : Nat) (a1 : Int32) (a2 : Int32) (a3 : Int32) (a4 : Int32) (a5 : Int32) (a6 : Int32) (a7 : Int32) (a8 : Int32) (h : AH) : F_X8_flawed [.ref a0, .int a1, .int a2, .int a3, .int a4, .int a5, .int a6, .int a7, .int a8] h = F_X8_flawed_b0 [some (.ref a0), some (.int a1), some (.int a2), some (.int a3), some (.int a4), some (.int a5), some (.int a6), some (.int a7), some (.int a8), none] [] h := mk_F_eq rfl rfl
theorem ent_X8_allPlaces (a0 : Nat) (h : AH) : F_X8_allPlaces [.ref a0] h = F_X8_allPlaces_b0 [some (.ref a0)] [] h := mk_F_eq rfl rfl
theorem ent_X8_common (a0 : Int64) (a1 : Int64) (h : AH) : F_X8_common [.long a0, .long a1] h = F_X8_common_b0 [some (.long a0), none, some (.long a1), none, none, none, none, none, none, none] [] h := mk_F_eq rfl rfl
theorem ent_X8_fraction (a0 : Nat) (a1 : Int64) (a2 : Int64) (a3 : Int32) (h : AH) : F_X8_fraction [.ref a0, .long a1, .long a2, .int a3] h = F_X8_fraction_b0 [some (.ref a0), some (.long a1), none, some (.long a2), none, some (.int a3)] [] h := mk_F_eq rfl rfl
theorem ent_X8_flaws (a0 : Nat) (a1 : Int32) (h : AH) : F_X8_flaws [.ref a0, .int a1] h = F_X8_flaws_b0 [some (.ref a0), some (.int a1)] [] h := mk_F_eq rfl rfl
theorem ent_X8_oddsOf (a0 : Nat) (a1 : Int32) (h : AH) : F_X8_oddsOf [.ref a0, .int a1] h = F_X8_oddsOf_b0 [some (.ref a0), some (.int a1), none, none, none, none] [] h := mk_F_eq rfl rfl
theorem ent_X8_odds (a0 : Nat) (a1 : Int32) (a2 : Int32) (a3 : Int32) (a4 : Int32) (a5 : Int32) (a6 : Int32) (a7 : Int32) (a8 : Int32) (h : AH) : F_X8_odds [.ref a0, .int a1, .int a2, .int a3, .int a4, .int a5, .int a6, .int a7, .int a8] h = F_X8_odds_b0 [some (.ref a0), some (.int a1), some (.int a2), some (.int a3), some (.int a4), some (.int a5), some (.int a6), some (.int a7), some (.int a8), none] [] h := mk_F_eq rfl rfl
theorem ent_X8_isChoice (a0 : Nat) (a1 : Int32) (a2 : Int32) (a3 : Int32) (a4 : Int32) (h : AH) : F_X8_isChoice [.ref a0, .int a1, .int a2, .int a3, .int a4] h = F_X8_isChoice_b0 [some (.ref a0), some (.int a1), some (.int a2), some (.int a3), some (.int a4)] [] h := mk_F_eq rfl rfl
theorem ent_X8_told (a0 : Int32) (h : AH) : F_X8_told [.int a0] h = F_X8_told_b0 [some (.int a0)] [] h := mk_F_eq rfl rfl
theorem ent_X8_best (a0 : Nat) (a1 : Int32) (a2 : Int32) (a3 : Int32) (a4 : Int32) (h : AH) : F_X8_best [.ref a0, .int a1, .int a2, .int a3, .int a4] h = F_X8_best_b0 [some (.ref a0), some (.int a1), some (.int a2), some (.int a3), some (.int a4), none, none, none, none, none, none] [] h := mk_F_eq rfl rfl
theorem ent_X8_isRest (a0 : Nat) (a1 : Int32) (a2 : Int32) (a3 : Int32) (a4 : Int32) (a5 : Int32) (h : AH) : F_X8_isRest [.ref a0, .int a1, .int a2, .int a3, .int a4, .int a5] h = F_X8_isRest_b0 [some (.ref a0), some (.int a1), some (.int a2), some (.int a3), some (.int a4), some (.int a5), none] [] h := mk_F_eq rfl rfl
theorem ent_X8_laysGame (a0 : Nat) (a1 : Int32) (a2 : Int32) (a3 : Int32) (h : AH) : F_X8_laysGame [.ref a0, .int a1, .int a2, .int a3] h = F_X8_laysGame_b0 [some (.ref a0), some (.int a1), some (.int a2), some (.int a3), none, none, none] [] h := mk_F_eq rfl rfl
theorem ent_X8_restAt (a0 : Nat) (a1 : Int32) (a2 : Int32) (a3 : Int32) (a4 : Int32) (h : AH) : F_X8_restAt [.ref a0, .int a1, .int a2, .int a3, .int a4] h = F_X8_restAt_b0 [some (.ref a0), some (.int a1), some (.int a2), some (.int a3), some (.int a4), none, none, none] [] h := mk_F_eq rfl rfl
theorem ent_X8_rests (a0 : Nat) (a1 : Int32) (a2 : Int32) (a3 : Int32) (h : AH) : F_X8_rests [.ref a0, .int a1, .int a2, .int a3] h = F_X8_rests_b0 [some (.ref a0), some (.int a1), some (.int a2), some (.int a3)] [] h := mk_F_eq rfl rfl
theorem ent_X8_rest (a0 : Nat) (a1 : Int32) (a2 : Int32) (a3 : Int32) (h : AH) : F_X8_rest [.ref a0, .int a1, .int a2, .int a3] h = F_X8_rest_b0 [some (.ref a0), some (.int a1), some (.int a2), some (.int a3)] [] h := mk_F_eq rfl rfl
theorem ent_X8_sure (a0 : Nat) (a1 : Int32) (a2 : Int32) (a3 : Int32) (a4 : Int32) (h : AH) : F_X8_sure [.ref a0, .int a1, .int a2, .int a3, .int a4] h = F_X8_sure_b0 [some (.ref a0), some (.int a1), some (.int a2), some (.int a3), some (.int a4), none, none, none, none, none, none] [] h := mk_F_eq rfl rfl
theorem ent_X8_laysTold (a0 : Nat) (a1 : Int32) (a2 : Int32) (a3 : Int32) (h : AH) : F_X8_laysTold [.ref a0, .int a1, .int a2, .int a3] h = F_X8_laysTold_b0 [some (.ref a0), some (.int a1), some (.int a2), some (.int a3)] [] h := mk_F_eq rfl rfl
theorem ent_X8_curveOf (a0 : Nat) (a1 : Int32) (a2 : Int32) (a3 : Int32) (a4 : Int32) (h : AH) : F_X8_curveOf [.ref a0, .int a1, .int a2, .int a3, .int a4] h = F_X8_curveOf_b0 [some (.ref a0), some (.int a1), some (.int a2), some (.int a3), some (.int a4)] [] h := mk_F_eq rfl rfl
theorem ent_X8_curve (a0 : Nat) (a1 : Int32) (a2 : Int32) (a3 : Int32) (a4 : Int32) (a5 : Int32) (h : AH) : F_X8_curve [.ref a0, .int a1, .int a2, .int a3, .int a4, .int a5] h = F_X8_curve_b0 [some (.ref a0), some (.int a1), some (.int a2), some (.int a3), some (.int a4), some (.int a5), none, none] [] h := mk_F_eq rfl rfl
theorem ent_X8_bestDay (a0 : Nat) (a1 : Int32) (a2 : Int32) (a3 : Int32) (h : AH) : F_X8_bestDay [.ref a0, .int a1, .int a2, .int a3] h = F_X8_bestDay_b0 [some (.ref a0), some (.int a1), some (.int a2), some (.int a3), none, none] [] h := mk_F_eq rfl rfl
theorem ent_X8_oddsWith (a0 : Nat) (a1 : Int32) (a2 : Int32) (a3 : Int32) (a4 : Int32) (h : AH) : F_X8_oddsWith [.ref a0, .int a1, .int a2, .int a3, .int a4] h = F_X8_oddsWith_b0 [some (.ref a0), some (.int a1), some (.int a2), some (.int a3), some (.int a4)] [] h := mk_F_eq rfl rfl
theorem ent_X8_thickness (a0 : Nat) (a1 : Int32) (a2 : Int32) (h : AH) : F_X8_thickness [.ref a0, .int a1, .int a2] h = F_X8_thickness_b0 [some (.ref a0), some (.int a1), some (.int a2), none, none] [] h := mk_F_eq rfl rfl
theorem ent_X8_chosen (a0 : Nat) (a1 : Int32) (a2 : Int32) (a3 : Int32) (h : AH) : F_X8_chosen [.ref a0, .int a1, .int a2, .int a3] h = F_X8_chosen_b0 [some (.ref a0), some (.int a1), some (.int a2), some (.int a3)] [] h := mk_F_eq rfl rfl
theorem ent_X8_byLaw (a0 : Nat) (a1 : Int32) (a2 : Int32) (a3 : Int32) (a4 : Int32) (h : AH) : F_X8_byLaw [.ref a0, .int a1, .int a2, .int a3, .int a4] h = F_X8_byLaw_b0 [some (.ref a0), some (.int a1), some (.int a2), some (.int a3), some (.int a4), none] [] h := mk_F_eq rfl rfl
theorem ent_X8_lawOdds (a0 : Nat) (a1 : Int32) (a2 : Int32) (a3 : Int32) (a4 : Int32) (a5 : Int32) (h : AH) : F_X8_lawOdds [.ref a0, .int a1, .int a2, .int a3, .int a4, .int a5] h = F_X8_lawOdds_b0 [some (.ref a0), some (.int a1), some (.int a2), some (.int a3), some (.int a4), some (.int a5), none, none] [] h := mk_F_eq rfl rfl
theorem ent_X8_fromHalf (a0 : Nat) (a1 : Int32) (a2 : Int32) (a3 : Int32) (a4 : Int32) (h : AH) : F_X8_fromHalf [.ref a0, .int a1, .int a2, .int a3, .int a4] h = F_X8_fromHalf_b0 [some (.ref a0), some (.int a1), some (.int a2), some (.int a3), some (.int a4), none, none] [] h := mk_F_eq rfl rfl
theorem ent_X8_fairest (a0 : Nat) (a1 : Int32) (a2 : Int32) (a3 : Int32) (h : AH) : F_X8_fairest [.ref a0, .int a1, .int a2, .int a3] h = F_X8_fairest_b0 [some (.ref a0), some (.int a1), some (.int a2), some (.int a3), none, none] [] h := mk_F_eq rfl rfl
theorem ent_X8_greater (a0 : Nat) (a1 : Int32) (h : AH) : F_X8_greater [.ref a0, .int a1] h = F_X8_greater_b0 [some (.ref a0), some (.int a1), none, none] [] h := mk_F_eq rfl rfl
theorem ent_X8_lesser (a0 : Nat) (a1 : Int32) (h : AH) : F_X8_lesser [.ref a0, .int a1] h = F_X8_lesser_b0 [some (.ref a0), some (.int a1), none, none] [] h := mk_F_eq rfl rfl
theorem ent_X8_counts (a0 : Nat) (a1 : Int32) (a2 : Int32) (h : AH) : F_X8_counts [.ref a0, .int a1, .int a2] h = F_X8_counts_b0 [some (.ref a0), some (.int a1), some (.int a2)] [] h := mk_F_eq rfl rfl
theorem ent_X8_isFair (a0 : Nat) (h : AH) : F_X8_isFair [.ref a0] h = F_X8_isFair_b0 [some (.ref a0), none, none, none] [] h := mk_F_eq rfl rfl
theorem ent_X8_isIn (a0 : Nat) (a1 : Int32) (a2 : Int32) (h : AH) : F_X8_isIn [.ref a0, .int a1, .int a2] h = F_X8_isIn_b0 [some (.ref a0), some (.int a1), some (.int a2)] [] h := mk_F_eq rfl rfl
theorem ent_X8_isLow (a0 : Nat) (a1 : Int32) (h : AH) : F_X8_isLow [.ref a0, .int a1] h = F_X8_isLow_b0 [some (.ref a0), some (.int a1), none, none] [] h := mk_F_eq rfl rfl
theorem ent_X8_laysTurns (a0 : Nat) (a1 : Int32) (h : AH) : F_X8_laysTurns [.ref a0, .int a1] h = F_X8_laysTurns_b0 [some (.ref a0), some (.int a1), none, none] [] h := mk_F_eq rfl rfl
theorem ent_X8_refusesTurns (a0 : Nat) (a1 : Int32) (h : AH) : F_X8_refusesTurns [.ref a0, .int a1] h = F_X8_refusesTurns_b0 [some (.ref a0), some (.int a1)] [] h := mk_F_eq rfl rfl
theorem ent_X8_turnsOf (a0 : Nat) (a1 : Int32) (h : AH) : F_X8_turnsOf [.ref a0, .int a1] h = F_X8_turnsOf_b0 [some (.ref a0), some (.int a1), none] [] h := mk_F_eq rfl rfl
theorem ent_X8_turnAt (a0 : Nat) (a1 : Int32) (a2 : Int32) (h : AH) : F_X8_turnAt [.ref a0, .int a1, .int a2] h = F_X8_turnAt_b0 [some (.ref a0), some (.int a1), some (.int a2), none] [] h := mk_F_eq rfl rfl
theorem ent_X8_rowsOf (a0 : Int32) (a1 : Int32) (h : AH) : F_X8_rowsOf [.int a0, .int a1] h = F_X8_rowsOf_b0 [some (.int a0), some (.int a1), none, none, none, none, none] [] h := mk_F_eq rfl rfl
theorem ent_X8_hand (a0 : Nat) (a1 : Int32) (a2 : Int32) (h : AH) : F_X8_hand [.ref a0, .int a1, .int a2] h = F_X8_hand_b0 [some (.ref a0), some (.int a1), some (.int a2)] [] h := mk_F_eq rfl rfl
theorem ent_X8_side (a0 : Nat) (a1 : Int32) (h : AH) : F_X8_side [.ref a0, .int a1] h = F_X8_side_b0 [some (.ref a0), some (.int a1), none, none] [] h := mk_F_eq rfl rfl
theorem ent_X8_known (a0 : Nat) (h : AH) : F_X8_known [.ref a0] h = F_X8_known_b0 [some (.ref a0), none, none] [] h := mk_F_eq rfl rfl
theorem ent_X8_hens (a0 : Nat) (a1 : Int32) (h : AH) : F_X8_hens [.ref a0, .int a1] h = F_X8_hens_b0 [some (.ref a0), some (.int a1), none] [] h := mk_F_eq rfl rfl
theorem ent_X8_byTenths (a0 : Nat) (a1 : Int32) (a2 : Int32) (a3 : Int32) (h : AH) : F_X8_byTenths [.ref a0, .int a1, .int a2, .int a3] h = F_X8_byTenths_b0 [some (.ref a0), some (.int a1), some (.int a2), some (.int a3), none, none, none] [] h := mk_F_eq rfl rfl
theorem ent_X8_thumbs (a0 : Nat) (a1 : Int32) (a2 : Int32) (h : AH) : F_X8_thumbs [.ref a0, .int a1, .int a2] h = F_X8_thumbs_b0 [some (.ref a0), some (.int a1), some (.int a2), none, none, none, none, none, none] [] h := mk_F_eq rfl rfl
theorem ent_X8_worthOf (a0 : Nat) (a1 : Int32) (h : AH) : F_X8_worthOf [.ref a0, .int a1] h = F_X8_worthOf_b0 [some (.ref a0), some (.int a1)] [] h := mk_F_eq rfl rfl
theorem ent_X8_let (a0 : Nat) (a1 : Int32) (a2 : Int32) (h : AH) : F_X8_let [.ref a0, .int a1, .int a2] h = F_X8_let_b0 [some (.ref a0), some (.int a1), some (.int a2), none, none] [] h := mk_F_eq rfl rfl
theorem ent_X8_worth (a0 : Nat) (a1 : Int32) (h : AH) : F_X8_worth [.ref a0, .int a1] h = F_X8_worth_b0 [some (.ref a0), some (.int a1)] [] h := mk_F_eq rfl rfl
theorem ent_X8_isPiece (a0 : Nat) (a1 : Int32) (h : AH) : F_X8_isPiece [.ref a0, .int a1] h = F_X8_isPiece_b0 [some (.ref a0), some (.int a1)] [] h := mk_F_eq rfl rfl
theorem ent_X8_knobs (a0 : Nat) (a1 : Int32) (h : AH) : F_X8_knobs [.ref a0, .int a1] h = F_X8_knobs_b0 [some (.ref a0), some (.int a1), none, none, none, none, none] [] h := mk_F_eq rfl rfl
theorem ent_X8_knob (a0 : Nat) (a1 : Int32) (h : AH) : F_X8_knob [.ref a0, .int a1] h = F_X8_knob_b0 [some (.ref a0), some (.int a1)] [] h := mk_F_eq rfl rfl
theorem ent_X8_owners (a0 : Nat) (a1 : Int32) (h : AH) : F_X8_owners [.ref a0, .int a1] h = F_X8_owners_b0 [some (.ref a0), some (.int a1)] [] h := mk_F_eq rfl rfl
theorem ent_X8_refusesYear (a0 : Nat) (a1 : Int32) (a2 : Int32) (a3 : Int32) (h : AH) : F_X8_refusesYear [.ref a0, .int a1, .int a2, .int a3] h = F_X8_refusesYear_b0 [some (.ref a0), some (.int a1), some (.int a2), some (.int a3)] [] h := mk_F_eq rfl rfl
theorem ent_X8_drawn (a0 : Nat) (a1 : Int32) (h : AH) : F_X8_drawn [.ref a0, .int a1] h = F_X8_drawn_b0 [some (.ref a0), some (.int a1)] [] h := mk_F_eq rfl rfl
theorem ent_X8_flawsByDraws (a0 : Nat) (h : AH) : F_X8_flawsByDraws [.ref a0] h = F_X8_flawsByDraws_b0 [some (.ref a0)] [] h := mk_F_eq rfl rfl
theorem ent_X8_year (a0 : Nat) (a1 : Int32) (a2 : Int32) (h : AH) : F_X8_year [.ref a0, .int a1, .int a2] h = F_X8_year_b0 [some (.ref a0), some (.int a1), some (.int a2), none, none, none, none, none] [] h := mk_F_eq rfl rfl
theorem ent_X8_wins (a0 : Nat) (a1 : Int32) (a2 : Int32) (a3 : Int32) (h : AH) : F_X8_wins [.ref a0, .int a1, .int a2, .int a3] h = F_X8_wins_b0 [some (.ref a0), some (.int a1), some (.int a2), some (.int a3), none] [] h := mk_F_eq rfl rfl
theorem ent_X8_spoilt (a0 : Nat) (a1 : Int32) (a2 : Int32) (a3 : Int32) (h : AH) : F_X8_spoilt [.ref a0, .int a1, .int a2, .int a3] h = F_X8_spoilt_b0 [some (.ref a0), some (.int a1), some (.int a2), some (.int a3), none] [] h := mk_F_eq rfl rfl
theorem ent_X8_denied (a0 : Nat) (a1 : Int32) (h : AH) : F_X8_denied [.ref a0, .int a1] h = F_X8_denied_b0 [some (.ref a0), some (.int a1)] [] h := mk_F_eq rfl rfl
theorem ent_X8_granted (a0 : Nat) (h : AH) : F_X8_granted [.ref a0] h = F_X8_granted_b0 [some (.ref a0)] [] h := mk_F_eq rfl rfl
theorem ent_X8_keeps (a0 : Nat) (h : AH) : F_X8_keeps [.ref a0] h = F_X8_keeps_b0 [some (.ref a0), none] [] h := mk_F_eq rfl rfl
theorem ent_X8_dry (a0 : Nat) (a1 : Int32) (h : AH) : F_X8_dry [.ref a0, .int a1] h = F_X8_dry_b0 [some (.ref a0), some (.int a1), none] [] h := mk_F_eq rfl rfl
theorem ent_X8_boil (a0 : Nat) (a1 : Int32) (h : AH) : F_X8_boil [.ref a0, .int a1] h = F_X8_boil_b0 [some (.ref a0), some (.int a1)] [] h := mk_F_eq rfl rfl
theorem ent_X8_pull (a0 : Nat) (a1 : Int32) (a2 : Int32) (a3 : Int32) (a4 : Int32) (a5 : Int32) (a6 : Int32) (h : AH) : F_X8_pull [.ref a0, .int a1, .int a2, .int a3, .int a4, .int a5, .int a6] h = F_X8_pull_b0 [some (.ref a0), some (.int a1), some (.int a2), some (.int a3), some (.int a4), some (.int a5), some (.int a6), none, none] [] h := mk_F_eq rfl rfl
theorem ent_X8_seed (a0 : Nat) (a1 : Int32) (h : AH) : F_X8_seed [.ref a0, .int a1] h = F_X8_seed_b0 [some (.ref a0), some (.int a1)] [] h := mk_F_eq rfl rfl
theorem ent_X8_undo (a0 : Nat) (h : AH) : F_X8_undo [.ref a0] h = F_X8_undo_b0 [some (.ref a0), none] [] h := mk_F_eq rfl rfl
theorem ent_X8_mark (a0 : Nat) (h : AH) : F_X8_mark [.ref a0] h = F_X8_mark_b0 [some (.ref a0), none] [] h := mk_F_eq rfl rfl
theorem ent_X8_back (a0 : Nat) (a1 : Int32) (h : AH) : F_X8_back [.ref a0, .int a1] h = F_X8_back_b0 [some (.ref a0), some (.int a1), none] [] h := mk_F_eq rfl rfl
theorem ent_X8_led (a0 : Nat) (a1 : Int32) (h : AH) : F_X8_led [.ref a0, .int a1] h = F_X8_led_b0 [some (.ref a0), some (.int a1), none, none] [] h := mk_F_eq rfl rfl
theorem ent_X8_size (a0 : Nat) (a1 : Int32) (h : AH) : F_X8_size [.ref a0, .int a1] h = F_X8_size_b0 [some (.ref a0), some (.int a1)] [] h := mk_F_eq rfl rfl
theorem ent_X8_trouble (a0 : Nat) (h : AH) : F_X8_trouble [.ref a0] h = F_X8_trouble_b0 [some (.ref a0)] [] h := mk_F_eq rfl rfl
