/-! WORDS OF THE LAW's START, by their places -/
set_option maxRecDepth 100000
set_option maxHeartbeats 2000000
abbrev nwF : List Cond := flatC (Jvm.Cond.and given_1 narrow_1)
abbrev tmS (i : Nat) : Term := .string "LeftUndoes" (ixS.getD i 0)
theorem nP_hex : ∀ i, i < 21 → nwF[([628, 636, 648, 660, 671, 683, 696, 711, 726, 743, 760, 780, 800, 824, 867, 889, 910, 932, 957, 847, 982] : List Nat).getD i 0]? = some (Cond.exactly (tmS i) "java/lang/String") := by decide +kernel
theorem nP_hco : ∀ i, i < 21 → nwF[([629, 637, 649, 661, 672, 684, 697, 712, 727, 744, 761, 781, 801, 825, 868, 890, 911, 933, 958, 848, 983] : List Nat).getD i 0]? = some (Cond.eq (.field (tmS i) "java/lang/String" "coder" "B") (.int 0)) := by decide +kernel
theorem nP_har : ∀ i, i < 21 → nwF[([630, 638, 650, 662, 673, 685, 698, 713, 728, 745, 762, 782, 802, 826, 869, 891, 912, 934, 959, 849, 984] : List Nat).getD i 0]? = some (Cond.arrayOf (.field (tmS i) "java/lang/String" "value" "[B") .byte) := by decide +kernel
theorem nP_hle : ∀ i, i < 21 → nwF[([631, 639, 651, 663, 674, 686, 699, 714, 729, 746, 763, 783, 803, 827, 870, 892, 913, 935, 960, 850, 985] : List Nat).getD i 0]? = some (Cond.eq (.length (.field (tmS i) "java/lang/String" "value" "[B")) (.int (Int32.ofNat (lenS.getD i 0)))) := by decide +kernel
theorem nP_hel : ∀ i, i < 21 → ∀ j, j < lenS.getD i 0 → nwF[(([[632, 633, 634, 635], [640, 641, 642, 643, 644, 645, 646], [652, 653, 654, 655, 656, 657], [664, 665, 666, 667], [675, 676, 677, 678], [687, 688, 689, 690], [700, 701, 702, 703, 704], [715, 716, 717, 718], [730, 731, 732, 733, 734], [747, 748, 749, 750], [764, 765, 766, 767, 768, 769], [784, 785, 786, 787, 788], [804, 805, 806, 807, 808, 809, 810, 811], [828, 829, 830, 831, 832, 833], [871, 872, 873], [893], [914], [936, 937, 938], [961, 962], [851, 852], [986]] : List (List Nat)).getD i []).getD j 0]? = some (Cond.eq (.elem (.field (tmS i) "java/lang/String" "value" "[B") (.int (Int32.ofNat j))) (.int ((bytS.getD i []).getD j 0))) := by decide +kernel
theorem nP_cs : nwF[(23 : Nat)]? = some (Cond.eq (.static "java/lang/String" "COMPACT_STRINGS" "Z") (.int 1)) := by decide +kernel
theorem nP_si : nwF[(24 : Nat)]? = some (Cond.isRef (.static "jdk/internal/util/Preconditions" "SIOOBE_FORMATTER" "Ljava/util/function/BiFunction;")) := by decide +kernel
theorem nP_us : nwF[(21 : Nat)]? = some (Cond.isRef (.static "java/lang/Throwable" "UNASSIGNED_STACK" "[Ljava/lang/StackTraceElement;")) := by decide +kernel
theorem nP_ss : nwF[(22 : Nat)]? = some (Cond.isRef (.static "java/lang/Throwable" "SUPPRESSED_SENTINEL" "Ljava/util/List;")) := by decide +kernel
theorem nP_neX : ∀ i, i < 3 → nwF[([112, 94, 116] : List Nat).getD i 0]? = (cNoX[i]?).map (fun x => Cond.not (.castable x.1 x.2)) := by decide +kernel
