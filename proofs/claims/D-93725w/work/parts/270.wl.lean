set_option maxRecDepth 100000
set_option maxHeartbeats 1000000
def RL : String := "SendTheBoxLaw"
theorem hd_X0_row : yX0_row.cls = RX0 ∧ yX0_row.cls ≠ "java/lang/invoke/MethodHandle" ∧ yX0_row.cls ≠ "java/lang/invoke/VarHandle" ∧ (parseMethodDescriptor yX0_row.desc).map (fun d => d.parameters.length) = some 3 := by decide +kernel
theorem wl_L_13 : GoodIn lw_all (wsV RL 13 RX0 yX0_row (wsW_ yX0_row cX0_row 5 (some .int) [(29, 43, 46, 93)])) := lw_VW q167 q168 q169 q69 q170
theorem hd_X3_row : yX3_row.cls = RX3 ∧ yX3_row.cls ≠ "java/lang/invoke/MethodHandle" ∧ yX3_row.cls ≠ "java/lang/invoke/VarHandle" ∧ (parseMethodDescriptor yX3_row.desc).map (fun d => d.parameters.length) = some 3 := by decide +kernel
theorem wl_L_17 : GoodIn lw_all (wsV RL 17 RX3 yX3_row (ws_ yX3_row cX3_row 5 (some .int))) := lw_V q1526 q1527 q1528 q72 q1529
theorem hd_X0_set : yX0_set.cls = RX0 ∧ yX0_set.cls ≠ "java/lang/invoke/MethodHandle" ∧ yX0_set.cls ≠ "java/lang/invoke/VarHandle" ∧ (parseMethodDescriptor yX0_set.desc).map (fun d => d.parameters.length) = some 3 := by decide +kernel
theorem wl_L_20 : GoodIn lw_all (wsV RL 20 RX0 yX0_set (wsW_ yX0_set cX0_set 6 (some .int) [(14, 25, 26, 97), (14, 25, 38, 113)])) := lw_VW q275 q276 q277 q69 q278
theorem hd_X3_set : yX3_set.cls = RX3 ∧ yX3_set.cls ≠ "java/lang/invoke/MethodHandle" ∧ yX3_set.cls ≠ "java/lang/invoke/VarHandle" ∧ (parseMethodDescriptor yX3_set.desc).map (fun d => d.parameters.length) = some 3 := by decide +kernel
theorem wl_L_24 : GoodIn lw_all (wsV RL 24 RX3 yX3_set (ws_ yX3_set cX3_set 5 (some .int))) := lw_V q1540 q1541 q1542 q72 q1543
theorem hd_X0_copy : yX0_copy.cls = RX0 ∧ yX0_copy.cls ≠ "java/lang/invoke/MethodHandle" ∧ yX0_copy.cls ≠ "java/lang/invoke/VarHandle" ∧ (parseMethodDescriptor yX0_copy.desc).map (fun d => d.parameters.length) = some 5 := by decide +kernel
theorem wl_L_25 : GoodIn lw_all (wsV RL 25 RX0 yX0_copy (wsW_ yX0_copy cX0_copy 9 (some .int) [(66, 80, 81, 121), (66, 80, 90, 123), (66, 80, 99, 125)])) := lw_VW q341 q342 q343 q69 q344
theorem hd_X3_copy : yX3_copy.cls = RX3 ∧ yX3_copy.cls ≠ "java/lang/invoke/MethodHandle" ∧ yX3_copy.cls ≠ "java/lang/invoke/VarHandle" ∧ (parseMethodDescriptor yX3_copy.desc).map (fun d => d.parameters.length) = some 5 := by decide +kernel
theorem wl_L_29 : GoodIn lw_all (wsV RL 29 RX3 yX3_copy (ws_ yX3_copy cX3_copy 7 (some .int))) := lw_V q1547 q1548 q1549 q72 q1550
theorem hd_X0_element : yX0_element.cls = RX0 ∧ yX0_element.cls ≠ "java/lang/invoke/MethodHandle" ∧ yX0_element.cls ≠ "java/lang/invoke/VarHandle" ∧ (parseMethodDescriptor yX0_element.desc).map (fun d => d.parameters.length) = some 2 := by decide +kernel
theorem wl_L_30 : GoodIn lw_all (wsV RL 30 RX0 yX0_element (wsW_ yX0_element cX0_element 4 (some .long) [(9, 18, 19, 97), (9, 18, 22, 113)])) := lw_VW q388 q389 q390 q69 q391
theorem hd_X3_element : yX3_element.cls = RX3 ∧ yX3_element.cls ≠ "java/lang/invoke/MethodHandle" ∧ yX3_element.cls ≠ "java/lang/invoke/VarHandle" ∧ (parseMethodDescriptor yX3_element.desc).map (fun d => d.parameters.length) = some 2 := by decide +kernel
theorem wl_L_34 : GoodIn lw_all (wsV RL 34 RX3 yX3_element (ws_ yX3_element cX3_element 3 (some .long))) := lw_V q1551 q1552 q1553 q72 q1554
theorem hd_X0_holds : yX0_holds.cls = RX0 ∧ yX0_holds.cls ≠ "java/lang/invoke/MethodHandle" ∧ yX0_holds.cls ≠ "java/lang/invoke/VarHandle" ∧ (parseMethodDescriptor yX0_holds.desc).map (fun d => d.parameters.length) = some 1 := by decide +kernel
theorem wl_L_35 : GoodIn lw_all (wsV RL 35 RX0 yX0_holds (ws_ yX0_holds cX0_holds 3 (some .int))) := lw_V q395 q396 q397 q69 q398
theorem hd_X3_holds : yX3_holds.cls = RX3 ∧ yX3_holds.cls ≠ "java/lang/invoke/MethodHandle" ∧ yX3_holds.cls ≠ "java/lang/invoke/VarHandle" ∧ (parseMethodDescriptor yX3_holds.desc).map (fun d => d.parameters.length) = some 1 := by decide +kernel
theorem wl_L_39 : GoodIn lw_all (wsV RL 39 RX3 yX3_holds (ws_ yX3_holds cX3_holds 2 (some .int))) := lw_V q1555 q1556 q1557 q72 q1558
theorem hd_X0_rule : yX0_rule.cls = RX0 ∧ yX0_rule.cls ≠ "java/lang/invoke/MethodHandle" ∧ yX0_rule.cls ≠ "java/lang/invoke/VarHandle" ∧ (parseMethodDescriptor yX0_rule.desc).map (fun d => d.parameters.length) = some 3 := by decide +kernel
theorem wl_L_40 : GoodIn lw_all (wsV RL 40 RX0 yX0_rule (wsW_ yX0_rule cX0_rule 5 (some .int) [(31, 47, 48, 97)])) := lw_VW q417 q418 q419 q69 q420
theorem hd_X3_rule : yX3_rule.cls = RX3 ∧ yX3_rule.cls ≠ "java/lang/invoke/MethodHandle" ∧ yX3_rule.cls ≠ "java/lang/invoke/VarHandle" ∧ (parseMethodDescriptor yX3_rule.desc).map (fun d => d.parameters.length) = some 3 := by decide +kernel
theorem wl_L_43 : GoodIn lw_all (wsV RL 43 RX3 yX3_rule (ws_ yX3_rule cX3_rule 5 (some .int))) := lw_V q1559 q1560 q1561 q72 q1562
theorem hd_X0_says : yX0_says.cls = RX0 ∧ yX0_says.cls ≠ "java/lang/invoke/MethodHandle" ∧ yX0_says.cls ≠ "java/lang/invoke/VarHandle" ∧ (parseMethodDescriptor yX0_says.desc).map (fun d => d.parameters.length) = some 2 := by decide +kernel
theorem wl_L_44 : GoodIn lw_all (wsV RL 44 RX0 yX0_says (wsW_ yX0_says cX0_says 4 (some .int) [(23, 65, 106, 97), (66, 73, 106, 97), (74, 81, 106, 97), (82, 89, 106, 97), (90, 97, 106, 97), (98, 105, 106, 97), (23, 65, 116, 173), (66, 73, 116, 173), (74, 81, 116, 173), (82, 89, 116, 173), (90, 97, 116, 173), (98, 105, 116, 173)])) := lw_VW q513 q514 q515 q69 q516
theorem hd_X3_says : yX3_says.cls = RX3 ∧ yX3_says.cls ≠ "java/lang/invoke/MethodHandle" ∧ yX3_says.cls ≠ "java/lang/invoke/VarHandle" ∧ (parseMethodDescriptor yX3_says.desc).map (fun d => d.parameters.length) = some 2 := by decide +kernel
theorem wl_L_48 : GoodIn lw_all (wsV RL 48 RX3 yX3_says (ws_ yX3_says cX3_says 4 (some .int))) := lw_V q1569 q1570 q1571 q72 q1572
theorem hd_X0_feed : yX0_feed.cls = RX0 ∧ yX0_feed.cls ≠ "java/lang/invoke/MethodHandle" ∧ yX0_feed.cls ≠ "java/lang/invoke/VarHandle" ∧ (parseMethodDescriptor yX0_feed.desc).map (fun d => d.parameters.length) = some 2 := by decide +kernel
theorem wl_L_49 : GoodIn lw_all (wsV RL 49 RX0 yX0_feed (ws_ yX0_feed cX0_feed 4 (some .int))) := lw_V q552 q553 q554 q69 q555
theorem hd_X3_feed : yX3_feed.cls = RX3 ∧ yX3_feed.cls ≠ "java/lang/invoke/MethodHandle" ∧ yX3_feed.cls ≠ "java/lang/invoke/VarHandle" ∧ (parseMethodDescriptor yX3_feed.desc).map (fun d => d.parameters.length) = some 2 := by decide +kernel
theorem wl_L_52 : GoodIn lw_all (wsV RL 52 RX3 yX3_feed (ws_ yX3_feed cX3_feed 4 (some .int))) := lw_V q1573 q1574 q1575 q72 q1576
theorem hd_X0_wipe : yX0_wipe.cls = RX0 ∧ yX0_wipe.cls ≠ "java/lang/invoke/MethodHandle" ∧ yX0_wipe.cls ≠ "java/lang/invoke/VarHandle" ∧ (parseMethodDescriptor yX0_wipe.desc).map (fun d => d.parameters.length) = some 0 := by decide +kernel
theorem wl_L_53 : GoodIn lw_all (wsV RL 53 RX0 yX0_wipe (ws_ yX0_wipe cX0_wipe 2 (some .int))) := lw_V q556 q557 q558 q69 q559
theorem hd_X3_wipe : yX3_wipe.cls = RX3 ∧ yX3_wipe.cls ≠ "java/lang/invoke/MethodHandle" ∧ yX3_wipe.cls ≠ "java/lang/invoke/VarHandle" ∧ (parseMethodDescriptor yX3_wipe.desc).map (fun d => d.parameters.length) = some 0 := by decide +kernel
theorem wl_L_57 : GoodIn lw_all (wsV RL 57 RX3 yX3_wipe (ws_ yX3_wipe cX3_wipe 2 (some .int))) := lw_V q1577 q1578 q1579 q72 q1580
theorem hd_X0_house : yX0_house.cls = RX0 ∧ yX0_house.cls ≠ "java/lang/invoke/MethodHandle" ∧ yX0_house.cls ≠ "java/lang/invoke/VarHandle" ∧ (parseMethodDescriptor yX0_house.desc).map (fun d => d.parameters.length) = some 0 := by decide +kernel
theorem wl_L_58 : GoodIn lw_all (wsV RL 58 RX0 yX0_house (wsW_ yX0_house cX0_house 4 (some .int) [(19, 67, 74, 200), (19, 67, 97, 0), (74, 90, 97, 0)])) := lw_VW q560 q561 q562 q69 q563
theorem hd_X3_house : yX3_house.cls = RX3 ∧ yX3_house.cls ≠ "java/lang/invoke/MethodHandle" ∧ yX3_house.cls ≠ "java/lang/invoke/VarHandle" ∧ (parseMethodDescriptor yX3_house.desc).map (fun d => d.parameters.length) = some 0 := by decide +kernel
theorem wl_L_61 : GoodIn lw_all (wsV RL 61 RX3 yX3_house (ws_ yX3_house cX3_house 2 (some .int))) := lw_V q1581 q1582 q1583 q72 q1584
theorem hd_X0_houseOf : yX0_houseOf.cls = RX0 ∧ yX0_houseOf.cls ≠ "java/lang/invoke/MethodHandle" ∧ yX0_houseOf.cls ≠ "java/lang/invoke/VarHandle" ∧ (parseMethodDescriptor yX0_houseOf.desc).map (fun d => d.parameters.length) = some 2 := by decide +kernel
theorem wl_L_62 : GoodIn lw_all (wsV RL 62 RX0 yX0_houseOf (ws_ yX0_houseOf cX0_houseOf 4 (some .int))) := lw_V q931 q932 q933 q69 q934
theorem hd_X3_houseOf : yX3_houseOf.cls = RX3 ∧ yX3_houseOf.cls ≠ "java/lang/invoke/MethodHandle" ∧ yX3_houseOf.cls ≠ "java/lang/invoke/VarHandle" ∧ (parseMethodDescriptor yX3_houseOf.desc).map (fun d => d.parameters.length) = some 2 := by decide +kernel
theorem wl_L_65 : GoodIn lw_all (wsV RL 65 RX3 yX3_houseOf (ws_ yX3_houseOf cX3_houseOf 3 (some .int))) := lw_V q1650 q1651 q1652 q72 q1653
theorem hd_X0_sortOf_2 : yX0_sortOf_2.cls = RX0 ∧ yX0_sortOf_2.cls ≠ "java/lang/invoke/MethodHandle" ∧ yX0_sortOf_2.cls ≠ "java/lang/invoke/VarHandle" ∧ (parseMethodDescriptor yX0_sortOf_2.desc).map (fun d => d.parameters.length) = some 3 := by decide +kernel
theorem wl_L_66 : GoodIn lw_all (wsV RL 66 RX0 yX0_sortOf_2 (ws_ yX0_sortOf_2 cX0_sortOf_2 5 (some .int))) := lw_V q939 q940 q941 q69 q942
theorem hd_X3_sortOf : yX3_sortOf.cls = RX3 ∧ yX3_sortOf.cls ≠ "java/lang/invoke/MethodHandle" ∧ yX3_sortOf.cls ≠ "java/lang/invoke/VarHandle" ∧ (parseMethodDescriptor yX3_sortOf.desc).map (fun d => d.parameters.length) = some 3 := by decide +kernel
theorem wl_L_69 : GoodIn lw_all (wsV RL 69 RX3 yX3_sortOf (ws_ yX3_sortOf cX3_sortOf 4 (some .int))) := lw_V q1658 q1659 q1660 q72 q1661
theorem hd_X0_alter : yX0_alter.cls = RX0 ∧ yX0_alter.cls ≠ "java/lang/invoke/MethodHandle" ∧ yX0_alter.cls ≠ "java/lang/invoke/VarHandle" ∧ (parseMethodDescriptor yX0_alter.desc).map (fun d => d.parameters.length) = some 3 := by decide +kernel
theorem wl_L_70 : GoodIn lw_all (wsV RL 70 RX0 yX0_alter (ws_ yX0_alter cX0_alter 7 (some .int))) := lw_V q947 q948 q949 q69 q950
theorem hd_X3_alter : yX3_alter.cls = RX3 ∧ yX3_alter.cls ≠ "java/lang/invoke/MethodHandle" ∧ yX3_alter.cls ≠ "java/lang/invoke/VarHandle" ∧ (parseMethodDescriptor yX3_alter.desc).map (fun d => d.parameters.length) = some 3 := by decide +kernel
theorem wl_L_73 : GoodIn lw_all (wsV RL 73 RX3 yX3_alter (ws_ yX3_alter cX3_alter 5 (some .int))) := lw_V q1666 q1667 q1668 q72 q1669
theorem hd_X0_change : yX0_change.cls = RX0 ∧ yX0_change.cls ≠ "java/lang/invoke/MethodHandle" ∧ yX0_change.cls ≠ "java/lang/invoke/VarHandle" ∧ (parseMethodDescriptor yX0_change.desc).map (fun d => d.parameters.length) = some 4 := by decide +kernel
theorem wl_L_74 : GoodIn lw_all (wsV RL 74 RX0 yX0_change (ws_ yX0_change cX0_change 8 (some .int))) := lw_V q955 q956 q957 q69 q958
theorem hd_X3_change : yX3_change.cls = RX3 ∧ yX3_change.cls ≠ "java/lang/invoke/MethodHandle" ∧ yX3_change.cls ≠ "java/lang/invoke/VarHandle" ∧ (parseMethodDescriptor yX3_change.desc).map (fun d => d.parameters.length) = some 4 := by decide +kernel
theorem wl_L_78 : GoodIn lw_all (wsV RL 78 RX3 yX3_change (ws_ yX3_change cX3_change 7 (some .int))) := lw_V q1673 q1674 q1675 q72 q1676
theorem hd_X0_of : yX0_of.cls = RX0 ∧ yX0_of.cls ≠ "java/lang/invoke/MethodHandle" ∧ yX0_of.cls ≠ "java/lang/invoke/VarHandle" ∧ (parseMethodDescriptor yX0_of.desc).map (fun d => d.parameters.length) = some 2 := by decide +kernel
theorem wl_L_79 : GoodIn lw_all (wsV RL 79 RX0 yX0_of (ws_ yX0_of cX0_of 3 (some .int))) := lw_V q959 q960 q961 q69 q962
theorem hd_X3_of : yX3_of.cls = RX3 ∧ yX3_of.cls ≠ "java/lang/invoke/MethodHandle" ∧ yX3_of.cls ≠ "java/lang/invoke/VarHandle" ∧ (parseMethodDescriptor yX3_of.desc).map (fun d => d.parameters.length) = some 2 := by decide +kernel
theorem wl_L_82 : GoodIn lw_all (wsV RL 82 RX3 yX3_of (ws_ yX3_of cX3_of 3 (some .int))) := lw_V q1678 q1679 q1680 q72 q1681
theorem hd_X0_space : yX0_space.cls = RX0 ∧ yX0_space.cls ≠ "java/lang/invoke/MethodHandle" ∧ yX0_space.cls ≠ "java/lang/invoke/VarHandle" ∧ (parseMethodDescriptor yX0_space.desc).map (fun d => d.parameters.length) = some 2 := by decide +kernel
theorem wl_L_83 : GoodIn lw_all (wsV RL 83 RX0 yX0_space (ws_ yX0_space cX0_space 3 (some .int))) := lw_V q968 q969 q970 q69 q971
theorem hd_X3_space : yX3_space.cls = RX3 ∧ yX3_space.cls ≠ "java/lang/invoke/MethodHandle" ∧ yX3_space.cls ≠ "java/lang/invoke/VarHandle" ∧ (parseMethodDescriptor yX3_space.desc).map (fun d => d.parameters.length) = some 2 := by decide +kernel
theorem wl_L_86 : GoodIn lw_all (wsV RL 86 RX3 yX3_space (ws_ yX3_space cX3_space 3 (some .int))) := lw_V q1689 q1690 q1691 q72 q1692
theorem hd_X0_scale : yX0_scale.cls = RX0 ∧ yX0_scale.cls ≠ "java/lang/invoke/MethodHandle" ∧ yX0_scale.cls ≠ "java/lang/invoke/VarHandle" ∧ (parseMethodDescriptor yX0_scale.desc).map (fun d => d.parameters.length) = some 2 := by decide +kernel
theorem wl_L_87 : GoodIn lw_all (wsV RL 87 RX0 yX0_scale (ws_ yX0_scale cX0_scale 3 (some .long))) := lw_V q985 q986 q987 q69 q988
theorem hd_X3_scale : yX3_scale.cls = RX3 ∧ yX3_scale.cls ≠ "java/lang/invoke/MethodHandle" ∧ yX3_scale.cls ≠ "java/lang/invoke/VarHandle" ∧ (parseMethodDescriptor yX3_scale.desc).map (fun d => d.parameters.length) = some 2 := by decide +kernel
theorem wl_L_90 : GoodIn lw_all (wsV RL 90 RX3 yX3_scale (ws_ yX3_scale cX3_scale 3 (some .long))) := lw_V q1709 q1710 q1711 q72 q1712
theorem hd_X0_cost : yX0_cost.cls = RX0 ∧ yX0_cost.cls ≠ "java/lang/invoke/MethodHandle" ∧ yX0_cost.cls ≠ "java/lang/invoke/VarHandle" ∧ (parseMethodDescriptor yX0_cost.desc).map (fun d => d.parameters.length) = some 3 := by decide +kernel
theorem wl_L_91 : GoodIn lw_all (wsV RL 91 RX0 yX0_cost (ws_ yX0_cost cX0_cost 4 (some .long))) := lw_V q997 q998 q999 q69 q1000
theorem hd_X3_cost : yX3_cost.cls = RX3 ∧ yX3_cost.cls ≠ "java/lang/invoke/MethodHandle" ∧ yX3_cost.cls ≠ "java/lang/invoke/VarHandle" ∧ (parseMethodDescriptor yX3_cost.desc).map (fun d => d.parameters.length) = some 3 := by decide +kernel
theorem wl_L_95 : GoodIn lw_all (wsV RL 95 RX3 yX3_cost (ws_ yX3_cost cX3_cost 4 (some .long))) := lw_V q1729 q1730 q1731 q72 q1732
theorem hd_X0_best : yX0_best.cls = RX0 ∧ yX0_best.cls ≠ "java/lang/invoke/MethodHandle" ∧ yX0_best.cls ≠ "java/lang/invoke/VarHandle" ∧ (parseMethodDescriptor yX0_best.desc).map (fun d => d.parameters.length) = some 3 := by decide +kernel
theorem wl_L_96 : GoodIn lw_all (wsV RL 96 RX0 yX0_best (ws_ yX0_best cX0_best 4 (some .int))) := lw_V q1044 q1045 q1046 q69 q1047
theorem hd_X3_best : yX3_best.cls = RX3 ∧ yX3_best.cls ≠ "java/lang/invoke/MethodHandle" ∧ yX3_best.cls ≠ "java/lang/invoke/VarHandle" ∧ (parseMethodDescriptor yX3_best.desc).map (fun d => d.parameters.length) = some 3 := by decide +kernel
theorem wl_L_99 : GoodIn lw_all (wsV RL 99 RX3 yX3_best (ws_ yX3_best cX3_best 4 (some .int))) := lw_V q1753 q1754 q1755 q72 q1756
theorem hd_X0_fill : yX0_fill.cls = RX0 ∧ yX0_fill.cls ≠ "java/lang/invoke/MethodHandle" ∧ yX0_fill.cls ≠ "java/lang/invoke/VarHandle" ∧ (parseMethodDescriptor yX0_fill.desc).map (fun d => d.parameters.length) = some 2 := by decide +kernel
theorem wl_L_100 : GoodIn lw_all (wsV RL 100 RX0 yX0_fill (ws_ yX0_fill cX0_fill 3 (some .int))) := lw_V q1052 q1053 q1054 q69 q1055
theorem hd_X3_fill : yX3_fill.cls = RX3 ∧ yX3_fill.cls ≠ "java/lang/invoke/MethodHandle" ∧ yX3_fill.cls ≠ "java/lang/invoke/VarHandle" ∧ (parseMethodDescriptor yX3_fill.desc).map (fun d => d.parameters.length) = some 2 := by decide +kernel
theorem wl_L_103 : GoodIn lw_all (wsV RL 103 RX3 yX3_fill (ws_ yX3_fill cX3_fill 3 (some .int))) := lw_V q1721 q1722 q1723 q72 q1724
theorem hd_X0_load : yX0_load.cls = RX0 ∧ yX0_load.cls ≠ "java/lang/invoke/MethodHandle" ∧ yX0_load.cls ≠ "java/lang/invoke/VarHandle" ∧ (parseMethodDescriptor yX0_load.desc).map (fun d => d.parameters.length) = some 4 := by decide +kernel
theorem wl_L_104 : GoodIn lw_all (wsV RL 104 RX0 yX0_load (wsW_ yX0_load cX0_load 6 (some .int) [(34, 54, 55, 97)])) := lw_VW q1065 q1066 q1067 q69 q1068
theorem hd_X3_load : yX3_load.cls = RX3 ∧ yX3_load.cls ≠ "java/lang/invoke/MethodHandle" ∧ yX3_load.cls ≠ "java/lang/invoke/VarHandle" ∧ (parseMethodDescriptor yX3_load.desc).map (fun d => d.parameters.length) = some 4 := by decide +kernel
theorem wl_L_107 : GoodIn lw_all (wsV RL 107 RX3 yX3_load (ws_ yX3_load cX3_load 6 (some .int))) := lw_V q1757 q1758 q1759 q72 q1760
theorem hd_X0_mean : yX0_mean.cls = RX0 ∧ yX0_mean.cls ≠ "java/lang/invoke/MethodHandle" ∧ yX0_mean.cls ≠ "java/lang/invoke/VarHandle" ∧ (parseMethodDescriptor yX0_mean.desc).map (fun d => d.parameters.length) = some 4 := by decide +kernel
theorem wl_L_108 : GoodIn lw_all (wsV RL 108 RX0 yX0_mean (wsW_ yX0_mean cX0_mean 6 (some .long) [(0, 9, 10, 97)])) := lw_VW q1105 q1106 q1107 q69 q1108
theorem hd_X3_mean : yX3_mean.cls = RX3 ∧ yX3_mean.cls ≠ "java/lang/invoke/MethodHandle" ∧ yX3_mean.cls ≠ "java/lang/invoke/VarHandle" ∧ (parseMethodDescriptor yX3_mean.desc).map (fun d => d.parameters.length) = some 4 := by decide +kernel
theorem wl_L_112 : GoodIn lw_all (wsV RL 112 RX3 yX3_mean (ws_ yX3_mean cX3_mean 5 (some .long))) := lw_V q1773 q1774 q1775 q72 q1776
theorem hd_X0_lose : yX0_lose.cls = RX0 ∧ yX0_lose.cls ≠ "java/lang/invoke/MethodHandle" ∧ yX0_lose.cls ≠ "java/lang/invoke/VarHandle" ∧ (parseMethodDescriptor yX0_lose.desc).map (fun d => d.parameters.length) = some 4 := by decide +kernel
theorem wl_L_113 : GoodIn lw_all (wsV RL 113 RX0 yX0_lose (wsW_ yX0_lose cX0_lose 6 (some .long) [(0, 24, 25, 97)])) := lw_VW q1147 q1148 q1149 q69 q1150
theorem hd_X3_lose : yX3_lose.cls = RX3 ∧ yX3_lose.cls ≠ "java/lang/invoke/MethodHandle" ∧ yX3_lose.cls ≠ "java/lang/invoke/VarHandle" ∧ (parseMethodDescriptor yX3_lose.desc).map (fun d => d.parameters.length) = some 4 := by decide +kernel
theorem wl_L_116 : GoodIn lw_all (wsV RL 116 RX3 yX3_lose (ws_ yX3_lose cX3_lose 5 (some .long))) := lw_V q1789 q1790 q1791 q72 q1792
theorem hd_X0_boy : yX0_boy.cls = RX0 ∧ yX0_boy.cls ≠ "java/lang/invoke/MethodHandle" ∧ yX0_boy.cls ≠ "java/lang/invoke/VarHandle" ∧ (parseMethodDescriptor yX0_boy.desc).map (fun d => d.parameters.length) = some 1 := by decide +kernel
theorem wl_L_117 : GoodIn lw_all (wsV RL 117 RX0 yX0_boy (ws_ yX0_boy cX0_boy 9 (some .int))) := lw_V q1151 q1152 q1153 q69 q1154
theorem hd_X3_boy : yX3_boy.cls = RX3 ∧ yX3_boy.cls ≠ "java/lang/invoke/MethodHandle" ∧ yX3_boy.cls ≠ "java/lang/invoke/VarHandle" ∧ (parseMethodDescriptor yX3_boy.desc).map (fun d => d.parameters.length) = some 1 := by decide +kernel
theorem wl_L_120 : GoodIn lw_all (wsV RL 120 RX3 yX3_boy (ws_ yX3_boy cX3_boy 8 (some .int))) := lw_V q1793 q1794 q1795 q72 q1796
theorem hd_X0_waits : yX0_waits.cls = RX0 ∧ yX0_waits.cls ≠ "java/lang/invoke/MethodHandle" ∧ yX0_waits.cls ≠ "java/lang/invoke/VarHandle" ∧ (parseMethodDescriptor yX0_waits.desc).map (fun d => d.parameters.length) = some 3 := by decide +kernel
theorem wl_L_121 : GoodIn lw_all (wsV RL 121 RX0 yX0_waits (ws_ yX0_waits cX0_waits 5 (some .long))) := lw_V q1155 q1156 q1157 q69 q1158
theorem hd_X3_waits : yX3_waits.cls = RX3 ∧ yX3_waits.cls ≠ "java/lang/invoke/MethodHandle" ∧ yX3_waits.cls ≠ "java/lang/invoke/VarHandle" ∧ (parseMethodDescriptor yX3_waits.desc).map (fun d => d.parameters.length) = some 3 := by decide +kernel
theorem wl_L_124 : GoodIn lw_all (wsV RL 124 RX3 yX3_waits (ws_ yX3_waits cX3_waits 4 (some .long))) := lw_V q1797 q1798 q1799 q72 q1800
theorem hd_X0_once : yX0_once.cls = RX0 ∧ yX0_once.cls ≠ "java/lang/invoke/MethodHandle" ∧ yX0_once.cls ≠ "java/lang/invoke/VarHandle" ∧ (parseMethodDescriptor yX0_once.desc).map (fun d => d.parameters.length) = some 3 := by decide +kernel
theorem wl_L_125 : GoodIn lw_all (wsV RL 125 RX0 yX0_once (ws_ yX0_once cX0_once 5 (some .long))) := lw_V q1161 q1162 q1163 q69 q1164
theorem hd_X3_once : yX3_once.cls = RX3 ∧ yX3_once.cls ≠ "java/lang/invoke/MethodHandle" ∧ yX3_once.cls ≠ "java/lang/invoke/VarHandle" ∧ (parseMethodDescriptor yX3_once.desc).map (fun d => d.parameters.length) = some 3 := by decide +kernel
theorem wl_L_128 : GoodIn lw_all (wsV RL 128 RX3 yX3_once (ws_ yX3_once cX3_once 4 (some .long))) := lw_V q1801 q1802 q1803 q72 q1804
theorem hd_X0_dear : yX0_dear.cls = RX0 ∧ yX0_dear.cls ≠ "java/lang/invoke/MethodHandle" ∧ yX0_dear.cls ≠ "java/lang/invoke/VarHandle" ∧ (parseMethodDescriptor yX0_dear.desc).map (fun d => d.parameters.length) = some 4 := by decide +kernel
theorem wl_L_129 : GoodIn lw_all (wsV RL 129 RX0 yX0_dear (ws_ yX0_dear cX0_dear 6 (some .long))) := lw_V q1165 q1166 q1167 q69 q1168
theorem hd_X3_dear : yX3_dear.cls = RX3 ∧ yX3_dear.cls ≠ "java/lang/invoke/MethodHandle" ∧ yX3_dear.cls ≠ "java/lang/invoke/VarHandle" ∧ (parseMethodDescriptor yX3_dear.desc).map (fun d => d.parameters.length) = some 4 := by decide +kernel
theorem wl_L_132 : GoodIn lw_all (wsV RL 132 RX3 yX3_dear (ws_ yX3_dear cX3_dear 5 (some .long))) := lw_V q1857 q1858 q1859 q72 q1860
theorem hd_X0_chance : yX0_chance.cls = RX0 ∧ yX0_chance.cls ≠ "java/lang/invoke/MethodHandle" ∧ yX0_chance.cls ≠ "java/lang/invoke/VarHandle" ∧ (parseMethodDescriptor yX0_chance.desc).map (fun d => d.parameters.length) = some 4 := by decide +kernel
theorem wl_L_133 : GoodIn lw_all (wsV RL 133 RX0 yX0_chance (wsW_ yX0_chance cX0_chance 6 (some .long) [(0, 49, 50, 97)])) := lw_VW q1169 q1170 q1171 q69 q1172
theorem hd_X3_chance : yX3_chance.cls = RX3 ∧ yX3_chance.cls ≠ "java/lang/invoke/MethodHandle" ∧ yX3_chance.cls ≠ "java/lang/invoke/VarHandle" ∧ (parseMethodDescriptor yX3_chance.desc).map (fun d => d.parameters.length) = some 4 := by decide +kernel
theorem wl_L_136 : GoodIn lw_all (wsV RL 136 RX3 yX3_chance (ws_ yX3_chance cX3_chance 6 (some .long))) := lw_V q1809 q1810 q1811 q72 q1812
theorem hd_X0_reach : yX0_reach.cls = RX0 ∧ yX0_reach.cls ≠ "java/lang/invoke/MethodHandle" ∧ yX0_reach.cls ≠ "java/lang/invoke/VarHandle" ∧ (parseMethodDescriptor yX0_reach.desc).map (fun d => d.parameters.length) = some 3 := by decide +kernel
theorem wl_L_137 : GoodIn lw_all (wsV RL 137 RX0 yX0_reach (wsW_ yX0_reach cX0_reach 8 (some .int) [(0, 72, 73, 97)])) := lw_VW q1188 q1189 q1190 q69 q1191
theorem hd_X3_reach : yX3_reach.cls = RX3 ∧ yX3_reach.cls ≠ "java/lang/invoke/MethodHandle" ∧ yX3_reach.cls ≠ "java/lang/invoke/VarHandle" ∧ (parseMethodDescriptor yX3_reach.desc).map (fun d => d.parameters.length) = some 3 := by decide +kernel
theorem wl_L_140 : GoodIn lw_all (wsV RL 140 RX3 yX3_reach (ws_ yX3_reach cX3_reach 7 (some .int))) := lw_V q1821 q1822 q1823 q72 q1824
theorem hd_X0_held : yX0_held.cls = RX0 ∧ yX0_held.cls ≠ "java/lang/invoke/MethodHandle" ∧ yX0_held.cls ≠ "java/lang/invoke/VarHandle" ∧ (parseMethodDescriptor yX0_held.desc).map (fun d => d.parameters.length) = some 3 := by decide +kernel
theorem wl_L_141 : GoodIn lw_all (wsV RL 141 RX0 yX0_held (wsW_ yX0_held cX0_held 5 (some .long) [(0, 28, 29, 97)])) := lw_VW q1192 q1193 q1194 q69 q1195
theorem hd_X3_held : yX3_held.cls = RX3 ∧ yX3_held.cls ≠ "java/lang/invoke/MethodHandle" ∧ yX3_held.cls ≠ "java/lang/invoke/VarHandle" ∧ (parseMethodDescriptor yX3_held.desc).map (fun d => d.parameters.length) = some 3 := by decide +kernel
theorem wl_L_144 : GoodIn lw_all (wsV RL 144 RX3 yX3_held (ws_ yX3_held cX3_held 5 (some .long))) := lw_V q1825 q1826 q1827 q72 q1828
theorem hd_X0_boxes : yX0_boxes.cls = RX0 ∧ yX0_boxes.cls ≠ "java/lang/invoke/MethodHandle" ∧ yX0_boxes.cls ≠ "java/lang/invoke/VarHandle" ∧ (parseMethodDescriptor yX0_boxes.desc).map (fun d => d.parameters.length) = some 2 := by decide +kernel
theorem wl_L_145 : GoodIn lw_all (wsV RL 145 RX0 yX0_boxes (wsW_ yX0_boxes cX0_boxes 4 (some .long) [(0, 25, 26, 97)])) := lw_VW q1201 q1202 q1203 q69 q1204
theorem hd_X3_boxes : yX3_boxes.cls = RX3 ∧ yX3_boxes.cls ≠ "java/lang/invoke/MethodHandle" ∧ yX3_boxes.cls ≠ "java/lang/invoke/VarHandle" ∧ (parseMethodDescriptor yX3_boxes.desc).map (fun d => d.parameters.length) = some 2 := by decide +kernel
theorem wl_L_148 : GoodIn lw_all (wsV RL 148 RX3 yX3_boxes (ws_ yX3_boxes cX3_boxes 4 (some .long))) := lw_V q1833 q1834 q1835 q72 q1836
theorem hd_X0_plain : yX0_plain.cls = RX0 ∧ yX0_plain.cls ≠ "java/lang/invoke/MethodHandle" ∧ yX0_plain.cls ≠ "java/lang/invoke/VarHandle" ∧ (parseMethodDescriptor yX0_plain.desc).map (fun d => d.parameters.length) = some 1 := by decide +kernel
theorem wl_L_149 : GoodIn lw_all (wsV RL 149 RX0 yX0_plain (ws_ yX0_plain cX0_plain 10 (some .int))) := lw_V q1205 q1206 q1207 q69 q1208
theorem hd_X3_plain : yX3_plain.cls = RX3 ∧ yX3_plain.cls ≠ "java/lang/invoke/MethodHandle" ∧ yX3_plain.cls ≠ "java/lang/invoke/VarHandle" ∧ (parseMethodDescriptor yX3_plain.desc).map (fun d => d.parameters.length) = some 1 := by decide +kernel
theorem wl_L_152 : GoodIn lw_all (wsV RL 152 RX3 yX3_plain (ws_ yX3_plain cX3_plain 2 (some .int))) := lw_V q1837 q1838 q1839 q72 q1840
theorem hd_X0_every : yX0_every.cls = RX0 ∧ yX0_every.cls ≠ "java/lang/invoke/MethodHandle" ∧ yX0_every.cls ≠ "java/lang/invoke/VarHandle" ∧ (parseMethodDescriptor yX0_every.desc).map (fun d => d.parameters.length) = some 1 := by decide +kernel
theorem wl_L_153 : GoodIn lw_all (wsV RL 153 RX0 yX0_every (ws_ yX0_every cX0_every 9 (some .int))) := lw_V q1210 q1211 q1212 q69 q1213
theorem hd_X3_every : yX3_every.cls = RX3 ∧ yX3_every.cls ≠ "java/lang/invoke/MethodHandle" ∧ yX3_every.cls ≠ "java/lang/invoke/VarHandle" ∧ (parseMethodDescriptor yX3_every.desc).map (fun d => d.parameters.length) = some 1 := by decide +kernel
theorem wl_L_156 : GoodIn lw_all (wsV RL 156 RX3 yX3_every (ws_ yX3_every cX3_every 2 (some .int))) := lw_V q1849 q1850 q1851 q72 q1852
theorem hd_X0_promise : yX0_promise.cls = RX0 ∧ yX0_promise.cls ≠ "java/lang/invoke/MethodHandle" ∧ yX0_promise.cls ≠ "java/lang/invoke/VarHandle" ∧ (parseMethodDescriptor yX0_promise.desc).map (fun d => d.parameters.length) = some 2 := by decide +kernel
theorem wl_L_157 : GoodIn lw_all (wsV RL 157 RX0 yX0_promise (ws_ yX0_promise cX0_promise 4 (some .long))) := lw_V q1214 q1215 q1216 q69 q1217
theorem hd_X3_promise : yX3_promise.cls = RX3 ∧ yX3_promise.cls ≠ "java/lang/invoke/MethodHandle" ∧ yX3_promise.cls ≠ "java/lang/invoke/VarHandle" ∧ (parseMethodDescriptor yX3_promise.desc).map (fun d => d.parameters.length) = some 2 := by decide +kernel
theorem wl_L_160 : GoodIn lw_all (wsV RL 160 RX3 yX3_promise (ws_ yX3_promise cX3_promise 5 (some .long))) := lw_V q1853 q1854 q1855 q72 q1856
theorem hd_X0_shape : yX0_shape.cls = RX0 ∧ yX0_shape.cls ≠ "java/lang/invoke/MethodHandle" ∧ yX0_shape.cls ≠ "java/lang/invoke/VarHandle" ∧ (parseMethodDescriptor yX0_shape.desc).map (fun d => d.parameters.length) = some 2 := by decide +kernel
theorem wl_L_161 : GoodIn lw_all (wsV RL 161 RX0 yX0_shape (ws_ yX0_shape cX0_shape 6 (some .int))) := lw_V q1226 q1227 q1228 q69 q1229
theorem hd_X3_shape : yX3_shape.cls = RX3 ∧ yX3_shape.cls ≠ "java/lang/invoke/MethodHandle" ∧ yX3_shape.cls ≠ "java/lang/invoke/VarHandle" ∧ (parseMethodDescriptor yX3_shape.desc).map (fun d => d.parameters.length) = some 2 := by decide +kernel
theorem wl_L_164 : GoodIn lw_all (wsV RL 164 RX3 yX3_shape (ws_ yX3_shape cX3_shape 3 (some .int))) := lw_V q1861 q1862 q1863 q72 q1864
theorem hd_X0_odd_2 : yX0_odd_2.cls = RX0 ∧ yX0_odd_2.cls ≠ "java/lang/invoke/MethodHandle" ∧ yX0_odd_2.cls ≠ "java/lang/invoke/VarHandle" ∧ (parseMethodDescriptor yX0_odd_2.desc).map (fun d => d.parameters.length) = some 2 := by decide +kernel
theorem wl_L_165 : GoodIn lw_all (wsV RL 165 RX0 yX0_odd_2 (ws_ yX0_odd_2 cX0_odd_2 5 (some .int))) := lw_V q1236 q1237 q1238 q69 q1239
theorem hd_X3_odd : yX3_odd.cls = RX3 ∧ yX3_odd.cls ≠ "java/lang/invoke/MethodHandle" ∧ yX3_odd.cls ≠ "java/lang/invoke/VarHandle" ∧ (parseMethodDescriptor yX3_odd.desc).map (fun d => d.parameters.length) = some 2 := by decide +kernel
theorem wl_L_168 : GoodIn lw_all (wsV RL 168 RX3 yX3_odd (ws_ yX3_odd cX3_odd 4 (some .int))) := lw_V q1869 q1870 q1871 q72 q1872
theorem hd_X0_judge : yX0_judge.cls = RX0 ∧ yX0_judge.cls ≠ "java/lang/invoke/MethodHandle" ∧ yX0_judge.cls ≠ "java/lang/invoke/VarHandle" ∧ (parseMethodDescriptor yX0_judge.desc).map (fun d => d.parameters.length) = some 3 := by decide +kernel
theorem wl_L_169 : GoodIn lw_all (wsV RL 169 RX0 yX0_judge (wsW_ yX0_judge cX0_judge 11 (some .int) [(34, 146, 147, 97), (34, 146, 159, 113)])) := lw_VW q1240 q1241 q1242 q69 q1243
theorem hd_X3_judge : yX3_judge.cls = RX3 ∧ yX3_judge.cls ≠ "java/lang/invoke/MethodHandle" ∧ yX3_judge.cls ≠ "java/lang/invoke/VarHandle" ∧ (parseMethodDescriptor yX3_judge.desc).map (fun d => d.parameters.length) = some 3 := by decide +kernel
theorem wl_L_172 : GoodIn lw_all (wsV RL 172 RX3 yX3_judge (ws_ yX3_judge cX3_judge 6 (some .int))) := lw_V q1873 q1874 q1875 q72 q1876
theorem hd_X0_join : yX0_join.cls = RX0 ∧ yX0_join.cls ≠ "java/lang/invoke/MethodHandle" ∧ yX0_join.cls ≠ "java/lang/invoke/VarHandle" ∧ (parseMethodDescriptor yX0_join.desc).map (fun d => d.parameters.length) = some 2 := by decide +kernel
theorem wl_L_173 : GoodIn lw_all (wsV RL 173 RX0 yX0_join (wsW_ yX0_join cX0_join 4 (some .int) [(0, 25, 57, 97), (26, 56, 57, 97)])) := lw_VW q1244 q1245 q1246 q69 q1247
theorem hd_X3_join : yX3_join.cls = RX3 ∧ yX3_join.cls ≠ "java/lang/invoke/MethodHandle" ∧ yX3_join.cls ≠ "java/lang/invoke/VarHandle" ∧ (parseMethodDescriptor yX3_join.desc).map (fun d => d.parameters.length) = some 2 := by decide +kernel
theorem wl_L_176 : GoodIn lw_all (wsV RL 176 RX3 yX3_join (ws_ yX3_join cX3_join 3 (some .int))) := lw_V q1877 q1878 q1879 q72 q1880
theorem hd_X0_saved : yX0_saved.cls = RX0 ∧ yX0_saved.cls ≠ "java/lang/invoke/MethodHandle" ∧ yX0_saved.cls ≠ "java/lang/invoke/VarHandle" ∧ (parseMethodDescriptor yX0_saved.desc).map (fun d => d.parameters.length) = some 2 := by decide +kernel
theorem wl_L_177 : GoodIn lw_all (wsV RL 177 RX0 yX0_saved (wsW_ yX0_saved cX0_saved 8 (some .long) [(0, 98, 99, 97)])) := lw_VW q1266 q1267 q1268 q69 q1269
theorem hd_X3_saved : yX3_saved.cls = RX3 ∧ yX3_saved.cls ≠ "java/lang/invoke/MethodHandle" ∧ yX3_saved.cls ≠ "java/lang/invoke/VarHandle" ∧ (parseMethodDescriptor yX3_saved.desc).map (fun d => d.parameters.length) = some 2 := by decide +kernel
theorem wl_L_180 : GoodIn lw_all (wsV RL 180 RX3 yX3_saved (ws_ yX3_saved cX3_saved 12 (some .long))) := lw_V q1889 q1890 q1891 q72 q1892
theorem hd_X0_seed : yX0_seed.cls = RX0 ∧ yX0_seed.cls ≠ "java/lang/invoke/MethodHandle" ∧ yX0_seed.cls ≠ "java/lang/invoke/VarHandle" ∧ (parseMethodDescriptor yX0_seed.desc).map (fun d => d.parameters.length) = some 1 := by decide +kernel
theorem wl_L_181 : GoodIn lw_all (wsV RL 181 RX0 yX0_seed (ws_ yX0_seed cX0_seed 3 (some .int))) := lw_V q1273 q1274 q1275 q69 q1276
theorem hd_X3_seed : yX3_seed.cls = RX3 ∧ yX3_seed.cls ≠ "java/lang/invoke/MethodHandle" ∧ yX3_seed.cls ≠ "java/lang/invoke/VarHandle" ∧ (parseMethodDescriptor yX3_seed.desc).map (fun d => d.parameters.length) = some 1 := by decide +kernel
theorem wl_L_184 : GoodIn lw_all (wsV RL 184 RX3 yX3_seed (ws_ yX3_seed cX3_seed 3 (some .int))) := lw_V q1897 q1898 q1899 q72 q1900
theorem hd_X0_begin : yX0_begin.cls = RX0 ∧ yX0_begin.cls ≠ "java/lang/invoke/MethodHandle" ∧ yX0_begin.cls ≠ "java/lang/invoke/VarHandle" ∧ (parseMethodDescriptor yX0_begin.desc).map (fun d => d.parameters.length) = some 2 := by decide +kernel
theorem wl_L_185 : GoodIn lw_all (wsV RL 185 RX0 yX0_begin (wsW_ yX0_begin cX0_begin 4 (some .int) [(22, 63, 64, 97)])) := lw_VW q1277 q1278 q1279 q69 q1280
theorem hd_X3_begin : yX3_begin.cls = RX3 ∧ yX3_begin.cls ≠ "java/lang/invoke/MethodHandle" ∧ yX3_begin.cls ≠ "java/lang/invoke/VarHandle" ∧ (parseMethodDescriptor yX3_begin.desc).map (fun d => d.parameters.length) = some 2 := by decide +kernel
theorem wl_L_188 : GoodIn lw_all (wsV RL 188 RX3 yX3_begin (ws_ yX3_begin cX3_begin 5 (some .int))) := lw_V q1901 q1902 q1903 q72 q1904
theorem hd_X0_step : yX0_step.cls = RX0 ∧ yX0_step.cls ≠ "java/lang/invoke/MethodHandle" ∧ yX0_step.cls ≠ "java/lang/invoke/VarHandle" ∧ (parseMethodDescriptor yX0_step.desc).map (fun d => d.parameters.length) = some 1 := by decide +kernel
theorem wl_L_189 : GoodIn lw_all (wsV RL 189 RX0 yX0_step (ws_ yX0_step cX0_step 5 (some .int))) := lw_V q1319 q1320 q1321 q69 q1322
theorem hd_X3_step : yX3_step.cls = RX3 ∧ yX3_step.cls ≠ "java/lang/invoke/MethodHandle" ∧ yX3_step.cls ≠ "java/lang/invoke/VarHandle" ∧ (parseMethodDescriptor yX3_step.desc).map (fun d => d.parameters.length) = some 1 := by decide +kernel
theorem wl_L_192 : GoodIn lw_all (wsV RL 192 RX3 yX3_step (ws_ yX3_step cX3_step 4 (some .int))) := lw_V q1905 q1906 q1907 q72 q1908
theorem hd_X0_week : yX0_week.cls = RX0 ∧ yX0_week.cls ≠ "java/lang/invoke/MethodHandle" ∧ yX0_week.cls ≠ "java/lang/invoke/VarHandle" ∧ (parseMethodDescriptor yX0_week.desc).map (fun d => d.parameters.length) = some 1 := by decide +kernel
theorem wl_L_193 : GoodIn lw_all (wsV RL 193 RX0 yX0_week (ws_ yX0_week cX0_week 3 (some .int))) := lw_V q1340 q1341 q1342 q69 q1343
theorem hd_X3_week : yX3_week.cls = RX3 ∧ yX3_week.cls ≠ "java/lang/invoke/MethodHandle" ∧ yX3_week.cls ≠ "java/lang/invoke/VarHandle" ∧ (parseMethodDescriptor yX3_week.desc).map (fun d => d.parameters.length) = some 1 := by decide +kernel
theorem wl_L_196 : GoodIn lw_all (wsV RL 196 RX3 yX3_week (ws_ yX3_week cX3_week 2 (some .int))) := lw_V q1918 q1919 q1920 q72 q1921
theorem hd_X0_weeks : yX0_weeks.cls = RX0 ∧ yX0_weeks.cls ≠ "java/lang/invoke/MethodHandle" ∧ yX0_weeks.cls ≠ "java/lang/invoke/VarHandle" ∧ (parseMethodDescriptor yX0_weeks.desc).map (fun d => d.parameters.length) = some 3 := by decide +kernel
theorem wl_L_197 : GoodIn lw_all (wsV RL 197 RX0 yX0_weeks (wsW_ yX0_weeks cX0_weeks 8 (some .int) [(32, 104, 105, 97)])) := lw_VW q1344 q1345 q1346 q69 q1347
theorem hd_X3_weeks : yX3_weeks.cls = RX3 ∧ yX3_weeks.cls ≠ "java/lang/invoke/MethodHandle" ∧ yX3_weeks.cls ≠ "java/lang/invoke/VarHandle" ∧ (parseMethodDescriptor yX3_weeks.desc).map (fun d => d.parameters.length) = some 3 := by decide +kernel
theorem wl_L_200 : GoodIn lw_all (wsV RL 200 RX3 yX3_weeks (ws_ yX3_weeks cX3_weeks 9 (some .int))) := lw_V q1922 q1923 q1924 q72 q1925
theorem hd_X0_image : yX0_image.cls = RX0 ∧ yX0_image.cls ≠ "java/lang/invoke/MethodHandle" ∧ yX0_image.cls ≠ "java/lang/invoke/VarHandle" ∧ (parseMethodDescriptor yX0_image.desc).map (fun d => d.parameters.length) = some 0 := by decide +kernel
theorem wl_L_201 : GoodIn lw_all (wsV RL 201 RX0 yX0_image (ws_ yX0_image cX0_image 1 (some .int))) := lw_V q1348 q1349 q1350 q69 q1351
theorem hd_X3_image : yX3_image.cls = RX3 ∧ yX3_image.cls ≠ "java/lang/invoke/MethodHandle" ∧ yX3_image.cls ≠ "java/lang/invoke/VarHandle" ∧ (parseMethodDescriptor yX3_image.desc).map (fun d => d.parameters.length) = some 0 := by decide +kernel
theorem wl_L_204 : GoodIn lw_all (wsV RL 204 RX3 yX3_image (ws_ yX3_image cX3_image 1 (some .int))) := lw_V q1927 q1928 q1929 q72 q1930
theorem hd_X0_back : yX0_back.cls = RX0 ∧ yX0_back.cls ≠ "java/lang/invoke/MethodHandle" ∧ yX0_back.cls ≠ "java/lang/invoke/VarHandle" ∧ (parseMethodDescriptor yX0_back.desc).map (fun d => d.parameters.length) = some 0 := by decide +kernel
theorem wl_L_205 : GoodIn lw_all (wsV RL 205 RX0 yX0_back (ws_ yX0_back cX0_back 1 (some .int))) := lw_V q1365 q1366 q1367 q69 q1368
theorem hd_X3_back : yX3_back.cls = RX3 ∧ yX3_back.cls ≠ "java/lang/invoke/MethodHandle" ∧ yX3_back.cls ≠ "java/lang/invoke/VarHandle" ∧ (parseMethodDescriptor yX3_back.desc).map (fun d => d.parameters.length) = some 0 := by decide +kernel
theorem wl_L_208 : GoodIn lw_all (wsV RL 208 RX3 yX3_back (ws_ yX3_back cX3_back 1 (some .int))) := lw_V q1937 q1938 q1939 q72 q1940
theorem hd_X0_status : yX0_status.cls = RX0 ∧ yX0_status.cls ≠ "java/lang/invoke/MethodHandle" ∧ yX0_status.cls ≠ "java/lang/invoke/VarHandle" ∧ (parseMethodDescriptor yX0_status.desc).map (fun d => d.parameters.length) = some 1 := by decide +kernel
theorem wl_L_209 : GoodIn lw_all (wsV RL 209 RX0 yX0_status (ws_ yX0_status cX0_status 2 (some .int))) := lw_V q1369 q1370 q1371 q69 q1372
theorem hd_X3_status : yX3_status.cls = RX3 ∧ yX3_status.cls ≠ "java/lang/invoke/MethodHandle" ∧ yX3_status.cls ≠ "java/lang/invoke/VarHandle" ∧ (parseMethodDescriptor yX3_status.desc).map (fun d => d.parameters.length) = some 1 := by decide +kernel
theorem wl_L_212 : GoodIn lw_all (wsV RL 212 RX3 yX3_status (ws_ yX3_status cX3_status 4 (some .int))) := lw_V q1941 q1942 q1943 q72 q1944
theorem hd_X0_init : yX0_init.cls ≠ "java/lang/invoke/MethodHandle" ∧ yX0_init.cls ≠ "java/lang/invoke/VarHandle" ∧ (parseMethodDescriptor yX0_init.desc).map (fun d => d.parameters.length) = some 0 := by decide +kernel
abbrev rm_L_law (Lc Ls : Nat) : Room := { frames := 29, cells := Lc, slots := Ls, locals := 11200 }
def F_L_law_b1950 (Q : Int32 → gM → Prop)  (Lc Ls : Nat) (K18 : Int32 → Nat → Nat → gM → Prop) (a0 : Nat) (a1 : Nat) (a2 : Nat) (x3 : Int32)  (u v : Nat) (M : gM) : Prop :=
  K18 (x3 + (6 : Int32)) u v M
theorem w_L_law_b1950 {G : gG} {Q : Int32 → gM → Prop} {Lc Ls : Nat} (hC : gCx G cL_law 4 RL (some .boolean) (gQi Q) (rm_L_law Lc Ls)) (K18 : Int32 → Nat → Nat → gM → Prop) (a0 : Nat) (a1 : Nat) (a2 : Nat) (x3 : Int32)  (hK18 : ∀ x3' u' v' (_ : u' ≤ Lc ∧ v' ≤ Ls) M', K18 x3' u' v' M' → gAt G u' v' M' [(0, .ref a0), (1, .ref a1), (2, .ref a2), (3, .int x3')] 18 []) (u v : Nat) (hu : u ≤ Lc ∧ v ≤ Ls) (M : gM) (hF : F_L_law_b1950 Q Lc Ls K18 a0 a1 a2 x3 u v M) : gAt G u v M [(0, .ref a0), (1, .ref a1), (2, .ref a2), (3, .int x3)] 1950 [] := by
  unfold F_L_law_b1950 at hF
  refine g_iinc 1953 hC (x3 + (6 : Int32)) (lv' := [(3, .int _), (0, .ref _), (1, .ref _), (2, .ref _)]) dL_law_1950 rfl 3 rfl rfl (by decide) rfl ?_
  refine g_goto 18 hC dL_law_1953 (by decide) ?_
  refine g_sub [1, 2, 3, 0] rfl ?_
  exact hK18 _ _ _ hu _ hF
def F_L_law_b18 (Q : Int32 → gM → Prop)  (Lc Ls : Nat)  (a0 : Nat) (a1 : Nat) (a2 : Nat) : Nat → Int32 → Nat → Nat → gM → Prop
  | 0, _, _, _, _ => False
  | n + 1, x3, u, v, M =>
    aL M a0 fun x_1 =>
    (((x_1 - (6 : Int32)) < x3 →
      Q (1 : Int32) M) ∧
      (¬ (x_1 - (6 : Int32)) < x3 →
      aI M .int a0 x3 fun x_2 =>
      ((((x_2 &&& (63 : Int32)).toInt < 0 ∨ 46 < (x_2 &&& (63 : Int32)).toInt) →
        F_L_law_b1950 Q Lc Ls (F_L_law_b18 Q Lc Ls a0 a1 a2 n) a0 a1 a2 x3 u v M) ∧
        ((x_2 &&& (63 : Int32)) = (0 : Int32) →
        aI M .int a0 (x3 + (1 : Int32)) fun x_3 =>
        aI M .int a0 (x3 + (2 : Int32)) fun x_4 =>
        aI M .int a0 (x3 + (3 : Int32)) fun x_5 =>
        ∃ c_8 s_9, (u + c_8 ≤ Lc ∧ v + s_9 ≤ Ls) ∧
        rc M 0 a1 ∧ F_X0_row c_8 s_9 M a1 x_3 x_4 x_5 (fun x_7 M_6 =>
        aI M_6 .int a0 (x3 + (1 : Int32)) fun x_10 =>
        aI M_6 .int a0 (x3 + (2 : Int32)) fun x_11 =>
        aI M_6 .int a0 (x3 + (3 : Int32)) fun x_12 =>
        rc M_6 3 a2 ∧ F_X3_row M_6 a2 x_10 x_11 x_12 fun x_14 M_13 =>
        ((x_7 = x_14 →
          F_L_law_b1950 Q Lc Ls (F_L_law_b18 Q Lc Ls a0 a1 a2 n) a0 a1 a2 x3 (u + c_8) (v + s_9) M_13) ∧
          (¬ x_7 = x_14 →
          Q (0 : Int32) M_13)))) ∧
        ((x_2 &&& (63 : Int32)) = (1 : Int32) →
        aI M .int a0 (x3 + (1 : Int32)) fun x_15 =>
        aI M .int a0 (x3 + (2 : Int32)) fun x_16 =>
        aI M .int a0 (x3 + (3 : Int32)) fun x_17 =>
        aI M .int a0 (x3 + (4 : Int32)) fun x_18 =>
        ∃ c_21 s_22, (u + c_21 ≤ Lc ∧ v + s_22 ≤ Ls) ∧
        rc M 0 a1 ∧ F_X0_set c_21 s_22 M a1 x_15 x_16 ((x_17.toInt64 <<< ((32 : Int32).toInt64 &&& 63)) ||| (x_18.toInt64 &&& (4294967295 : Int64))) (fun x_20 M_19 =>
        aI M_19 .int a0 (x3 + (1 : Int32)) fun x_23 =>
        aI M_19 .int a0 (x3 + (2 : Int32)) fun x_24 =>
        aI M_19 .int a0 (x3 + (3 : Int32)) fun x_25 =>
        aI M_19 .int a0 (x3 + (4 : Int32)) fun x_26 =>
        rc M_19 3 a2 ∧ F_X3_set M_19 a2 x_23 x_24 ((x_25.toInt64 <<< ((32 : Int32).toInt64 &&& 63)) ||| (x_26.toInt64 &&& (4294967295 : Int64))) fun x_28 M_27 =>
        ((x_20 = x_28 →
          F_L_law_b1950 Q Lc Ls (F_L_law_b18 Q Lc Ls a0 a1 a2 n) a0 a1 a2 x3 (u + c_21) (v + s_22) M_27) ∧
          (¬ x_20 = x_28 →
          Q (0 : Int32) M_27)))) ∧
        ((x_2 &&& (63 : Int32)) = (2 : Int32) →
        aI M .int a0 (x3 + (1 : Int32)) fun x_29 =>
        aI M .int a0 (x3 + (2 : Int32)) fun x_30 =>
        aI M .int a0 (x3 + (3 : Int32)) fun x_31 =>
        aI M .int a0 (x3 + (4 : Int32)) fun x_32 =>
        aI M .int a0 (x3 + (5 : Int32)) fun x_33 =>
        ∃ c_36 s_37, (u + c_36 ≤ Lc ∧ v + s_37 ≤ Ls) ∧
        rc M 0 a1 ∧ F_X0_copy c_36 s_37 M a1 x_29 x_30 x_31 x_32 x_33 (fun x_35 M_34 =>
        aI M_34 .int a0 (x3 + (1 : Int32)) fun x_38 =>
        aI M_34 .int a0 (x3 + (2 : Int32)) fun x_39 =>
        aI M_34 .int a0 (x3 + (3 : Int32)) fun x_40 =>
        aI M_34 .int a0 (x3 + (4 : Int32)) fun x_41 =>
        aI M_34 .int a0 (x3 + (5 : Int32)) fun x_42 =>
        rc M_34 3 a2 ∧ F_X3_copy M_34 a2 x_38 x_39 x_40 x_41 x_42 fun x_44 M_43 =>
        ((x_35 = x_44 →
          F_L_law_b1950 Q Lc Ls (F_L_law_b18 Q Lc Ls a0 a1 a2 n) a0 a1 a2 x3 (u + c_36) (v + s_37) M_43) ∧
          (¬ x_35 = x_44 →
          Q (0 : Int32) M_43)))) ∧
        ((x_2 &&& (63 : Int32)) = (3 : Int32) →
        aI M .int a0 (x3 + (1 : Int32)) fun x_45 =>
        aI M .int a0 (x3 + (2 : Int32)) fun x_46 =>
        ∃ c_49 s_50, (u + c_49 ≤ Lc ∧ v + s_50 ≤ Ls) ∧
        rc M 0 a1 ∧ F_X0_element c_49 s_50 M a1 x_45 x_46 (fun j_48 M_47 =>
        aI M_47 .int a0 (x3 + (1 : Int32)) fun x_51 =>
        aI M_47 .int a0 (x3 + (2 : Int32)) fun x_52 =>
        rc M_47 3 a2 ∧ F_X3_element M_47 a2 x_51 x_52 fun j_54 M_53 =>
        ((j_48 = j_54 →
          F_L_law_b1950 Q Lc Ls (F_L_law_b18 Q Lc Ls a0 a1 a2 n) a0 a1 a2 x3 (u + c_49) (v + s_50) M_53) ∧
          (¬ j_48 = j_54 →
          Q (0 : Int32) M_53)))) ∧
        ((x_2 &&& (63 : Int32)) = (4 : Int32) →
        aI M .int a0 (x3 + (1 : Int32)) fun x_55 =>
        rc M 0 a1 ∧ F_X0_holds M a1 x_55 fun x_57 M_56 =>
        aI M_56 .int a0 (x3 + (1 : Int32)) fun x_58 =>
        rc M_56 3 a2 ∧ F_X3_holds M_56 a2 x_58 fun x_60 M_59 =>
        ((x_57 = x_60 →
          F_L_law_b1950 Q Lc Ls (F_L_law_b18 Q Lc Ls a0 a1 a2 n) a0 a1 a2 x3 u v M_59) ∧
          (¬ x_57 = x_60 →
          Q (0 : Int32) M_59))) ∧
        ((x_2 &&& (63 : Int32)) = (5 : Int32) →
        aI M .int a0 (x3 + (1 : Int32)) fun x_61 =>
        aI M .int a0 (x3 + (2 : Int32)) fun x_62 =>
        aI M .int a0 (x3 + (3 : Int32)) fun x_63 =>
        ∃ c_66 s_67, (u + c_66 ≤ Lc ∧ v + s_67 ≤ Ls) ∧
        rc M 0 a1 ∧ F_X0_rule c_66 s_67 M a1 x_61 x_62 x_63 (fun x_65 M_64 =>
        aI M_64 .int a0 (x3 + (1 : Int32)) fun x_68 =>
        aI M_64 .int a0 (x3 + (2 : Int32)) fun x_69 =>
        aI M_64 .int a0 (x3 + (3 : Int32)) fun x_70 =>
        rc M_64 3 a2 ∧ F_X3_rule M_64 a2 x_68 x_69 x_70 fun x_72 M_71 =>
        ((x_65 = x_72 →
          F_L_law_b1950 Q Lc Ls (F_L_law_b18 Q Lc Ls a0 a1 a2 n) a0 a1 a2 x3 (u + c_66) (v + s_67) M_71) ∧
          (¬ x_65 = x_72 →
          Q (0 : Int32) M_71)))) ∧
        ((x_2 &&& (63 : Int32)) = (6 : Int32) →
        aI M .int a0 (x3 + (1 : Int32)) fun x_73 =>
        aI M .int a0 (x3 + (2 : Int32)) fun x_74 =>
        ∃ c_77 s_78, (u + c_77 ≤ Lc ∧ v + s_78 ≤ Ls) ∧
        rc M 0 a1 ∧ F_X0_says c_77 s_78 M a1 x_73 x_74 (fun x_76 M_75 =>
        aI M_75 .int a0 (x3 + (1 : Int32)) fun x_79 =>
        aI M_75 .int a0 (x3 + (2 : Int32)) fun x_80 =>
        rc M_75 3 a2 ∧ F_X3_says M_75 a2 x_79 x_80 fun x_82 M_81 =>
        ((x_76 = x_82 →
          F_L_law_b1950 Q Lc Ls (F_L_law_b18 Q Lc Ls a0 a1 a2 n) a0 a1 a2 x3 (u + c_77) (v + s_78) M_81) ∧
          (¬ x_76 = x_82 →
          Q (0 : Int32) M_81)))) ∧
        ((x_2 &&& (63 : Int32)) = (7 : Int32) →
        aI M .int a0 (x3 + (1 : Int32)) fun x_83 =>
        aI M .int a0 (x3 + (2 : Int32)) fun x_84 =>
        rc M 0 a1 ∧ F_X0_feed M a1 x_83 x_84 fun x_86 M_85 =>
        aI M_85 .int a0 (x3 + (1 : Int32)) fun x_87 =>
        aI M_85 .int a0 (x3 + (2 : Int32)) fun x_88 =>
        rc M_85 3 a2 ∧ F_X3_feed M_85 a2 x_87 x_88 fun x_90 M_89 =>
        ((x_86 = x_90 →
          F_L_law_b1950 Q Lc Ls (F_L_law_b18 Q Lc Ls a0 a1 a2 n) a0 a1 a2 x3 u v M_89) ∧
          (¬ x_86 = x_90 →
          Q (0 : Int32) M_89))) ∧
        ((x_2 &&& (63 : Int32)) = (8 : Int32) →
        rc M 0 a1 ∧ F_X0_wipe M a1 fun x_92 M_91 =>
        rc M_91 3 a2 ∧ F_X3_wipe M_91 a2 fun x_94 M_93 =>
        ((x_92 = x_94 →
          F_L_law_b1950 Q Lc Ls (F_L_law_b18 Q Lc Ls a0 a1 a2 n) a0 a1 a2 x3 u v M_93) ∧
          (¬ x_92 = x_94 →
          Q (0 : Int32) M_93))) ∧
        ((x_2 &&& (63 : Int32)) = (9 : Int32) →
        ∃ c_97 s_98, (u + c_97 ≤ Lc ∧ v + s_98 ≤ Ls) ∧
        rc M 0 a1 ∧ F_X0_house c_97 s_98 M a1 (fun x_96 M_95 =>
        rc M_95 3 a2 ∧ F_X3_house M_95 a2 fun x_100 M_99 =>
        ((x_96 = x_100 →
          F_L_law_b1950 Q Lc Ls (F_L_law_b18 Q Lc Ls a0 a1 a2 n) a0 a1 a2 x3 (u + c_97) (v + s_98) M_99) ∧
          (¬ x_96 = x_100 →
          Q (0 : Int32) M_99)))) ∧
        ((x_2 &&& (63 : Int32)) = (10 : Int32) →
        aI M .int a0 (x3 + (1 : Int32)) fun x_101 =>
        aI M .int a0 (x3 + (2 : Int32)) fun x_102 =>
        rc M 0 a1 ∧ F_X0_houseOf M a1 x_101 x_102 fun x_104 M_103 =>
        aI M_103 .int a0 (x3 + (1 : Int32)) fun x_105 =>
        aI M_103 .int a0 (x3 + (2 : Int32)) fun x_106 =>
        rc M_103 3 a2 ∧ F_X3_houseOf M_103 a2 x_105 x_106 fun x_108 M_107 =>
        ((x_104 = x_108 →
          F_L_law_b1950 Q Lc Ls (F_L_law_b18 Q Lc Ls a0 a1 a2 n) a0 a1 a2 x3 u v M_107) ∧
          (¬ x_104 = x_108 →
          Q (0 : Int32) M_107))) ∧
        ((x_2 &&& (63 : Int32)) = (11 : Int32) →
        aI M .int a0 (x3 + (1 : Int32)) fun x_109 =>
        aI M .int a0 (x3 + (2 : Int32)) fun x_110 =>
        aI M .int a0 (x3 + (3 : Int32)) fun x_111 =>
        rc M 0 a1 ∧ F_X0_sortOf_2 M a1 x_109 x_110 x_111 fun x_113 M_112 =>
        aI M_112 .int a0 (x3 + (1 : Int32)) fun x_114 =>
        aI M_112 .int a0 (x3 + (2 : Int32)) fun x_115 =>
        aI M_112 .int a0 (x3 + (3 : Int32)) fun x_116 =>
        rc M_112 3 a2 ∧ F_X3_sortOf M_112 a2 x_114 x_115 x_116 fun x_118 M_117 =>
        ((x_113 = x_118 →
          F_L_law_b1950 Q Lc Ls (F_L_law_b18 Q Lc Ls a0 a1 a2 n) a0 a1 a2 x3 u v M_117) ∧
          (¬ x_113 = x_118 →
          Q (0 : Int32) M_117))) ∧
        ((x_2 &&& (63 : Int32)) = (12 : Int32) →
        aI M .int a0 (x3 + (1 : Int32)) fun x_119 =>
        aI M .int a0 (x3 + (2 : Int32)) fun x_120 =>
        aI M .int a0 (x3 + (3 : Int32)) fun x_121 =>
        rc M 0 a1 ∧ F_X0_alter M a1 x_119 x_120 x_121 fun x_123 M_122 =>
        aI M_122 .int a0 (x3 + (1 : Int32)) fun x_124 =>
        aI M_122 .int a0 (x3 + (2 : Int32)) fun x_125 =>
        aI M_122 .int a0 (x3 + (3 : Int32)) fun x_126 =>
        rc M_122 3 a2 ∧ F_X3_alter M_122 a2 x_124 x_125 x_126 fun x_128 M_127 =>
        ((x_123 = x_128 →
          F_L_law_b1950 Q Lc Ls (F_L_law_b18 Q Lc Ls a0 a1 a2 n) a0 a1 a2 x3 u v M_127) ∧
          (¬ x_123 = x_128 →
          Q (0 : Int32) M_127))) ∧
        ((x_2 &&& (63 : Int32)) = (13 : Int32) →
        aI M .int a0 (x3 + (1 : Int32)) fun x_129 =>
        aI M .int a0 (x3 + (2 : Int32)) fun x_130 =>
        aI M .int a0 (x3 + (3 : Int32)) fun x_131 =>
        aI M .int a0 (x3 + (4 : Int32)) fun x_132 =>
        rc M 0 a1 ∧ F_X0_change M a1 x_129 x_130 x_131 x_132 fun x_134 M_133 =>
        aI M_133 .int a0 (x3 + (1 : Int32)) fun x_135 =>
        aI M_133 .int a0 (x3 + (2 : Int32)) fun x_136 =>
        aI M_133 .int a0 (x3 + (3 : Int32)) fun x_137 =>
        aI M_133 .int a0 (x3 + (4 : Int32)) fun x_138 =>
        rc M_133 3 a2 ∧ F_X3_change M_133 a2 x_135 x_136 x_137 x_138 fun x_140 M_139 =>
        ((x_134 = x_140 →
          F_L_law_b1950 Q Lc Ls (F_L_law_b18 Q Lc Ls a0 a1 a2 n) a0 a1 a2 x3 u v M_139) ∧
          (¬ x_134 = x_140 →
          Q (0 : Int32) M_139))) ∧
        ((x_2 &&& (63 : Int32)) = (14 : Int32) →
        aI M .int a0 (x3 + (1 : Int32)) fun x_141 =>
        aI M .int a0 (x3 + (2 : Int32)) fun x_142 =>
        rc M 0 a1 ∧ F_X0_of M a1 x_141 x_142 fun x_144 M_143 =>
        aI M_143 .int a0 (x3 + (1 : Int32)) fun x_145 =>
        aI M_143 .int a0 (x3 + (2 : Int32)) fun x_146 =>
        rc M_143 3 a2 ∧ F_X3_of M_143 a2 x_145 x_146 fun x_148 M_147 =>
        ((x_144 = x_148 →
          F_L_law_b1950 Q Lc Ls (F_L_law_b18 Q Lc Ls a0 a1 a2 n) a0 a1 a2 x3 u v M_147) ∧
          (¬ x_144 = x_148 →
          Q (0 : Int32) M_147))) ∧
        ((x_2 &&& (63 : Int32)) = (15 : Int32) →
        aI M .int a0 (x3 + (1 : Int32)) fun x_149 =>
        aI M .int a0 (x3 + (2 : Int32)) fun x_150 =>
        rc M 0 a1 ∧ F_X0_space M a1 x_149 x_150 fun x_152 M_151 =>
        aI M_151 .int a0 (x3 + (1 : Int32)) fun x_153 =>
        aI M_151 .int a0 (x3 + (2 : Int32)) fun x_154 =>
        rc M_151 3 a2 ∧ F_X3_space M_151 a2 x_153 x_154 fun x_156 M_155 =>
        ((x_152 = x_156 →
          F_L_law_b1950 Q Lc Ls (F_L_law_b18 Q Lc Ls a0 a1 a2 n) a0 a1 a2 x3 u v M_155) ∧
          (¬ x_152 = x_156 →
          Q (0 : Int32) M_155))) ∧
        ((x_2 &&& (63 : Int32)) = (16 : Int32) →
        aI M .int a0 (x3 + (1 : Int32)) fun x_157 =>
        aI M .int a0 (x3 + (2 : Int32)) fun x_158 =>
        rc M 0 a1 ∧ F_X0_scale M a1 x_157 x_158 fun j_160 M_159 =>
        aI M_159 .int a0 (x3 + (1 : Int32)) fun x_161 =>
        aI M_159 .int a0 (x3 + (2 : Int32)) fun x_162 =>
        rc M_159 3 a2 ∧ F_X3_scale M_159 a2 x_161 x_162 fun j_164 M_163 =>
        ((j_160 = j_164 →
          F_L_law_b1950 Q Lc Ls (F_L_law_b18 Q Lc Ls a0 a1 a2 n) a0 a1 a2 x3 u v M_163) ∧
          (¬ j_160 = j_164 →
          Q (0 : Int32) M_163))) ∧
        ((x_2 &&& (63 : Int32)) = (17 : Int32) →
        aI M .int a0 (x3 + (1 : Int32)) fun x_165 =>
        aI M .int a0 (x3 + (2 : Int32)) fun x_166 =>
        aI M .int a0 (x3 + (3 : Int32)) fun x_167 =>
        ∃ c_170 s_171, (u + c_170 ≤ Lc ∧ v + s_171 ≤ Ls) ∧
        rc M 0 a1 ∧ F_X0_cost c_170 s_171 M a1 x_165 x_166 x_167 fun j_169 M_168 =>
        aI M_168 .int a0 (x3 + (1 : Int32)) fun x_172 =>
        aI M_168 .int a0 (x3 + (2 : Int32)) fun x_173 =>
        aI M_168 .int a0 (x3 + (3 : Int32)) fun x_174 =>
        rc M_168 3 a2 ∧ F_X3_cost M_168 a2 x_172 x_173 x_174 fun j_176 M_175 =>
        ((j_169 = j_176 →
          F_L_law_b1950 Q Lc Ls (F_L_law_b18 Q Lc Ls a0 a1 a2 n) a0 a1 a2 x3 (u + c_170) (v + s_171) M_175) ∧
          (¬ j_169 = j_176 →
          Q (0 : Int32) M_175))) ∧
        ((x_2 &&& (63 : Int32)) = (18 : Int32) →
        aI M .int a0 (x3 + (1 : Int32)) fun x_177 =>
        aI M .int a0 (x3 + (2 : Int32)) fun x_178 =>
        aI M .int a0 (x3 + (3 : Int32)) fun x_179 =>
        ∃ c_182 s_183, (u + c_182 ≤ Lc ∧ v + s_183 ≤ Ls) ∧
        rc M 0 a1 ∧ F_X0_best c_182 s_183 M a1 x_177 x_178 x_179 fun x_181 M_180 =>
        aI M_180 .int a0 (x3 + (1 : Int32)) fun x_184 =>
        aI M_180 .int a0 (x3 + (2 : Int32)) fun x_185 =>
        aI M_180 .int a0 (x3 + (3 : Int32)) fun x_186 =>
        rc M_180 3 a2 ∧ F_X3_best M_180 a2 x_184 x_185 x_186 fun x_188 M_187 =>
        ((x_181 = x_188 →
          F_L_law_b1950 Q Lc Ls (F_L_law_b18 Q Lc Ls a0 a1 a2 n) a0 a1 a2 x3 (u + c_182) (v + s_183) M_187) ∧
          (¬ x_181 = x_188 →
          Q (0 : Int32) M_187))) ∧
        ((x_2 &&& (63 : Int32)) = (19 : Int32) →
        aI M .int a0 (x3 + (1 : Int32)) fun x_189 =>
        aI M .int a0 (x3 + (2 : Int32)) fun x_190 =>
        rc M 0 a1 ∧ F_X0_fill M a1 x_189 x_190 fun x_192 M_191 =>
        aI M_191 .int a0 (x3 + (1 : Int32)) fun x_193 =>
        aI M_191 .int a0 (x3 + (2 : Int32)) fun x_194 =>
        rc M_191 3 a2 ∧ F_X3_fill M_191 a2 x_193 x_194 fun x_196 M_195 =>
        ((x_192 = x_196 →
          F_L_law_b1950 Q Lc Ls (F_L_law_b18 Q Lc Ls a0 a1 a2 n) a0 a1 a2 x3 u v M_195) ∧
          (¬ x_192 = x_196 →
          Q (0 : Int32) M_195))) ∧
        ((x_2 &&& (63 : Int32)) = (20 : Int32) →
        aI M .int a0 (x3 + (1 : Int32)) fun x_197 =>
        aI M .int a0 (x3 + (2 : Int32)) fun x_198 =>
        aI M .int a0 (x3 + (3 : Int32)) fun x_199 =>
        aI M .int a0 (x3 + (4 : Int32)) fun x_200 =>
        ∃ c_203 s_204, (u + c_203 ≤ Lc ∧ v + s_204 ≤ Ls) ∧
        rc M 0 a1 ∧ F_X0_load c_203 s_204 M a1 x_197 x_198 x_199 x_200 (fun x_202 M_201 =>
        aI M_201 .int a0 (x3 + (1 : Int32)) fun x_205 =>
        aI M_201 .int a0 (x3 + (2 : Int32)) fun x_206 =>
        aI M_201 .int a0 (x3 + (3 : Int32)) fun x_207 =>
        aI M_201 .int a0 (x3 + (4 : Int32)) fun x_208 =>
        rc M_201 3 a2 ∧ F_X3_load M_201 a2 x_205 x_206 x_207 x_208 fun x_210 M_209 =>
        ((x_202 = x_210 →
          F_L_law_b1950 Q Lc Ls (F_L_law_b18 Q Lc Ls a0 a1 a2 n) a0 a1 a2 x3 (u + c_203) (v + s_204) M_209) ∧
          (¬ x_202 = x_210 →
          Q (0 : Int32) M_209)))) ∧
        ((x_2 &&& (63 : Int32)) = (21 : Int32) →
        aI M .int a0 (x3 + (1 : Int32)) fun x_211 =>
        aI M .int a0 (x3 + (2 : Int32)) fun x_212 =>
        aI M .int a0 (x3 + (3 : Int32)) fun x_213 =>
        aI M .int a0 (x3 + (4 : Int32)) fun x_214 =>
        ∃ c_217 s_218, (u + c_217 ≤ Lc ∧ v + s_218 ≤ Ls) ∧
        rc M 0 a1 ∧ F_X0_mean c_217 s_218 M a1 x_211 x_212 x_213 x_214 (fun j_216 M_215 =>
        aI M_215 .int a0 (x3 + (1 : Int32)) fun x_219 =>
        aI M_215 .int a0 (x3 + (2 : Int32)) fun x_220 =>
        aI M_215 .int a0 (x3 + (3 : Int32)) fun x_221 =>
        aI M_215 .int a0 (x3 + (4 : Int32)) fun x_222 =>
        rc M_215 3 a2 ∧ F_X3_mean M_215 a2 x_219 x_220 x_221 x_222 fun j_224 M_223 =>
        ((j_216 = j_224 →
          F_L_law_b1950 Q Lc Ls (F_L_law_b18 Q Lc Ls a0 a1 a2 n) a0 a1 a2 x3 (u + c_217) (v + s_218) M_223) ∧
          (¬ j_216 = j_224 →
          Q (0 : Int32) M_223)))) ∧
        ((x_2 &&& (63 : Int32)) = (22 : Int32) →
        aI M .int a0 (x3 + (1 : Int32)) fun x_225 =>
        aI M .int a0 (x3 + (2 : Int32)) fun x_226 =>
        aI M .int a0 (x3 + (3 : Int32)) fun x_227 =>
        aI M .int a0 (x3 + (4 : Int32)) fun x_228 =>
        ∃ c_231 s_232, (u + c_231 ≤ Lc ∧ v + s_232 ≤ Ls) ∧
        rc M 0 a1 ∧ F_X0_lose c_231 s_232 M a1 x_225 x_226 x_227 x_228 (fun j_230 M_229 =>
        aI M_229 .int a0 (x3 + (1 : Int32)) fun x_233 =>
        aI M_229 .int a0 (x3 + (2 : Int32)) fun x_234 =>
        aI M_229 .int a0 (x3 + (3 : Int32)) fun x_235 =>
        aI M_229 .int a0 (x3 + (4 : Int32)) fun x_236 =>
        rc M_229 3 a2 ∧ F_X3_lose M_229 a2 x_233 x_234 x_235 x_236 fun j_238 M_237 =>
        ((j_230 = j_238 →
          F_L_law_b1950 Q Lc Ls (F_L_law_b18 Q Lc Ls a0 a1 a2 n) a0 a1 a2 x3 (u + c_231) (v + s_232) M_237) ∧
          (¬ j_230 = j_238 →
          Q (0 : Int32) M_237)))) ∧
        ((x_2 &&& (63 : Int32)) = (23 : Int32) →
        aI M .int a0 (x3 + (1 : Int32)) fun x_239 =>
        ∃ c_242 s_243, (u + c_242 ≤ Lc ∧ v + s_243 ≤ Ls) ∧
        rc M 0 a1 ∧ F_X0_boy c_242 s_243 M a1 x_239 fun x_241 M_240 =>
        aI M_240 .int a0 (x3 + (1 : Int32)) fun x_244 =>
        rc M_240 3 a2 ∧ F_X3_boy M_240 a2 x_244 fun x_246 M_245 =>
        ((x_241 = x_246 →
          F_L_law_b1950 Q Lc Ls (F_L_law_b18 Q Lc Ls a0 a1 a2 n) a0 a1 a2 x3 (u + c_242) (v + s_243) M_245) ∧
          (¬ x_241 = x_246 →
          Q (0 : Int32) M_245))) ∧
        ((x_2 &&& (63 : Int32)) = (24 : Int32) →
        aI M .int a0 (x3 + (1 : Int32)) fun x_247 =>
        aI M .int a0 (x3 + (2 : Int32)) fun x_248 =>
        aI M .int a0 (x3 + (3 : Int32)) fun x_249 =>
        ∃ c_252 s_253, (u + c_252 ≤ Lc ∧ v + s_253 ≤ Ls) ∧
        rc M 0 a1 ∧ F_X0_waits c_252 s_253 M a1 x_247 x_248 x_249 fun j_251 M_250 =>
        aI M_250 .int a0 (x3 + (1 : Int32)) fun x_254 =>
        aI M_250 .int a0 (x3 + (2 : Int32)) fun x_255 =>
        aI M_250 .int a0 (x3 + (3 : Int32)) fun x_256 =>
        rc M_250 3 a2 ∧ F_X3_waits M_250 a2 x_254 x_255 x_256 fun j_258 M_257 =>
        ((j_251 = j_258 →
          F_L_law_b1950 Q Lc Ls (F_L_law_b18 Q Lc Ls a0 a1 a2 n) a0 a1 a2 x3 (u + c_252) (v + s_253) M_257) ∧
          (¬ j_251 = j_258 →
          Q (0 : Int32) M_257))) ∧
        ((x_2 &&& (63 : Int32)) = (25 : Int32) →
        aI M .int a0 (x3 + (1 : Int32)) fun x_259 =>
        aI M .int a0 (x3 + (2 : Int32)) fun x_260 =>
        aI M .int a0 (x3 + (3 : Int32)) fun x_261 =>
        ∃ c_264 s_265, (u + c_264 ≤ Lc ∧ v + s_265 ≤ Ls) ∧
        rc M 0 a1 ∧ F_X0_once c_264 s_265 M a1 x_259 x_260 x_261 fun j_263 M_262 =>
        aI M_262 .int a0 (x3 + (1 : Int32)) fun x_266 =>
        aI M_262 .int a0 (x3 + (2 : Int32)) fun x_267 =>
        aI M_262 .int a0 (x3 + (3 : Int32)) fun x_268 =>
        rc M_262 3 a2 ∧ F_X3_once M_262 a2 x_266 x_267 x_268 fun j_270 M_269 =>
        ((j_263 = j_270 →
          F_L_law_b1950 Q Lc Ls (F_L_law_b18 Q Lc Ls a0 a1 a2 n) a0 a1 a2 x3 (u + c_264) (v + s_265) M_269) ∧
          (¬ j_263 = j_270 →
          Q (0 : Int32) M_269))) ∧
        ((x_2 &&& (63 : Int32)) = (26 : Int32) →
        aI M .int a0 (x3 + (1 : Int32)) fun x_271 =>
        aI M .int a0 (x3 + (2 : Int32)) fun x_272 =>
        aI M .int a0 (x3 + (3 : Int32)) fun x_273 =>
        aI M .int a0 (x3 + (4 : Int32)) fun x_274 =>
        ∃ c_277 s_278, (u + c_277 ≤ Lc ∧ v + s_278 ≤ Ls) ∧
        rc M 0 a1 ∧ F_X0_dear c_277 s_278 M a1 x_271 x_272 x_273 x_274 fun j_276 M_275 =>
        aI M_275 .int a0 (x3 + (1 : Int32)) fun x_279 =>
        aI M_275 .int a0 (x3 + (2 : Int32)) fun x_280 =>
        aI M_275 .int a0 (x3 + (3 : Int32)) fun x_281 =>
        aI M_275 .int a0 (x3 + (4 : Int32)) fun x_282 =>
        rc M_275 3 a2 ∧ F_X3_dear M_275 a2 x_279 x_280 x_281 x_282 fun j_284 M_283 =>
        ((j_276 = j_284 →
          F_L_law_b1950 Q Lc Ls (F_L_law_b18 Q Lc Ls a0 a1 a2 n) a0 a1 a2 x3 (u + c_277) (v + s_278) M_283) ∧
          (¬ j_276 = j_284 →
          Q (0 : Int32) M_283))) ∧
        ((x_2 &&& (63 : Int32)) = (27 : Int32) →
        aI M .int a0 (x3 + (1 : Int32)) fun x_285 =>
        aI M .int a0 (x3 + (2 : Int32)) fun x_286 =>
        aI M .int a0 (x3 + (3 : Int32)) fun x_287 =>
        aI M .int a0 (x3 + (4 : Int32)) fun x_288 =>
        ∃ c_291 s_292, (u + c_291 ≤ Lc ∧ v + s_292 ≤ Ls) ∧
        rc M 0 a1 ∧ F_X0_chance c_291 s_292 M a1 x_285 x_286 x_287 x_288 (fun j_290 M_289 =>
        aI M_289 .int a0 (x3 + (1 : Int32)) fun x_293 =>
        aI M_289 .int a0 (x3 + (2 : Int32)) fun x_294 =>
        aI M_289 .int a0 (x3 + (3 : Int32)) fun x_295 =>
        aI M_289 .int a0 (x3 + (4 : Int32)) fun x_296 =>
        rc M_289 3 a2 ∧ F_X3_chance M_289 a2 x_293 x_294 x_295 x_296 fun j_298 M_297 =>
        ((j_290 = j_298 →
          F_L_law_b1950 Q Lc Ls (F_L_law_b18 Q Lc Ls a0 a1 a2 n) a0 a1 a2 x3 (u + c_291) (v + s_292) M_297) ∧
          (¬ j_290 = j_298 →
          Q (0 : Int32) M_297)))) ∧
        ((x_2 &&& (63 : Int32)) = (28 : Int32) →
        aI M .int a0 (x3 + (1 : Int32)) fun x_299 =>
        aI M .int a0 (x3 + (2 : Int32)) fun x_300 =>
        aI M .int a0 (x3 + (3 : Int32)) fun x_301 =>
        ∃ c_304 s_305, (u + c_304 ≤ Lc ∧ v + s_305 ≤ Ls) ∧
        rc M 0 a1 ∧ F_X0_reach c_304 s_305 M a1 x_299 x_300 x_301 (fun x_303 M_302 =>
        aI M_302 .int a0 (x3 + (1 : Int32)) fun x_306 =>
        aI M_302 .int a0 (x3 + (2 : Int32)) fun x_307 =>
        aI M_302 .int a0 (x3 + (3 : Int32)) fun x_308 =>
        rc M_302 3 a2 ∧ F_X3_reach M_302 a2 x_306 x_307 x_308 fun x_310 M_309 =>
        ((x_303 = x_310 →
          F_L_law_b1950 Q Lc Ls (F_L_law_b18 Q Lc Ls a0 a1 a2 n) a0 a1 a2 x3 (u + c_304) (v + s_305) M_309) ∧
          (¬ x_303 = x_310 →
          Q (0 : Int32) M_309)))) ∧
        ((x_2 &&& (63 : Int32)) = (29 : Int32) →
        aI M .int a0 (x3 + (1 : Int32)) fun x_311 =>
        aI M .int a0 (x3 + (2 : Int32)) fun x_312 =>
        aI M .int a0 (x3 + (3 : Int32)) fun x_313 =>
        ∃ c_316 s_317, (u + c_316 ≤ Lc ∧ v + s_317 ≤ Ls) ∧
        rc M 0 a1 ∧ F_X0_held c_316 s_317 M a1 x_311 x_312 x_313 (fun j_315 M_314 =>
        aI M_314 .int a0 (x3 + (1 : Int32)) fun x_318 =>
        aI M_314 .int a0 (x3 + (2 : Int32)) fun x_319 =>
        aI M_314 .int a0 (x3 + (3 : Int32)) fun x_320 =>
        rc M_314 3 a2 ∧ F_X3_held M_314 a2 x_318 x_319 x_320 fun j_322 M_321 =>
        ((j_315 = j_322 →
          F_L_law_b1950 Q Lc Ls (F_L_law_b18 Q Lc Ls a0 a1 a2 n) a0 a1 a2 x3 (u + c_316) (v + s_317) M_321) ∧
          (¬ j_315 = j_322 →
          Q (0 : Int32) M_321)))) ∧
        ((x_2 &&& (63 : Int32)) = (30 : Int32) →
        aI M .int a0 (x3 + (1 : Int32)) fun x_323 =>
        aI M .int a0 (x3 + (2 : Int32)) fun x_324 =>
        ∃ c_327 s_328, (u + c_327 ≤ Lc ∧ v + s_328 ≤ Ls) ∧
        rc M 0 a1 ∧ F_X0_boxes c_327 s_328 M a1 x_323 x_324 (fun j_326 M_325 =>
        aI M_325 .int a0 (x3 + (1 : Int32)) fun x_329 =>
        aI M_325 .int a0 (x3 + (2 : Int32)) fun x_330 =>
        rc M_325 3 a2 ∧ F_X3_boxes M_325 a2 x_329 x_330 fun j_332 M_331 =>
        ((j_326 = j_332 →
          F_L_law_b1950 Q Lc Ls (F_L_law_b18 Q Lc Ls a0 a1 a2 n) a0 a1 a2 x3 (u + c_327) (v + s_328) M_331) ∧
          (¬ j_326 = j_332 →
          Q (0 : Int32) M_331)))) ∧
        ((x_2 &&& (63 : Int32)) = (31 : Int32) →
        aI M .int a0 (x3 + (1 : Int32)) fun x_333 =>
        ∃ c_336 s_337, (u + c_336 ≤ Lc ∧ v + s_337 ≤ Ls) ∧
        rc M 0 a1 ∧ F_X0_plain c_336 s_337 M a1 x_333 fun x_335 M_334 =>
        aI M_334 .int a0 (x3 + (1 : Int32)) fun x_338 =>
        rc M_334 3 a2 ∧ F_X3_plain M_334 a2 x_338 fun x_340 M_339 =>
        ((x_335 = x_340 →
          F_L_law_b1950 Q Lc Ls (F_L_law_b18 Q Lc Ls a0 a1 a2 n) a0 a1 a2 x3 (u + c_336) (v + s_337) M_339) ∧
          (¬ x_335 = x_340 →
          Q (0 : Int32) M_339))) ∧
        ((x_2 &&& (63 : Int32)) = (32 : Int32) →
        aI M .int a0 (x3 + (1 : Int32)) fun x_341 =>
        ∃ c_344 s_345, (u + c_344 ≤ Lc ∧ v + s_345 ≤ Ls) ∧
        rc M 0 a1 ∧ F_X0_every c_344 s_345 M a1 x_341 fun x_343 M_342 =>
        aI M_342 .int a0 (x3 + (1 : Int32)) fun x_346 =>
        rc M_342 3 a2 ∧ F_X3_every M_342 a2 x_346 fun x_348 M_347 =>
        ((x_343 = x_348 →
          F_L_law_b1950 Q Lc Ls (F_L_law_b18 Q Lc Ls a0 a1 a2 n) a0 a1 a2 x3 (u + c_344) (v + s_345) M_347) ∧
          (¬ x_343 = x_348 →
          Q (0 : Int32) M_347))) ∧
        ((x_2 &&& (63 : Int32)) = (33 : Int32) →
        aI M .int a0 (x3 + (1 : Int32)) fun x_349 =>
        aI M .int a0 (x3 + (2 : Int32)) fun x_350 =>
        ∃ c_353 s_354, (u + c_353 ≤ Lc ∧ v + s_354 ≤ Ls) ∧
        rc M 0 a1 ∧ F_X0_promise c_353 s_354 M a1 x_349 x_350 fun j_352 M_351 =>
        aI M_351 .int a0 (x3 + (1 : Int32)) fun x_355 =>
        aI M_351 .int a0 (x3 + (2 : Int32)) fun x_356 =>
        rc M_351 3 a2 ∧ F_X3_promise M_351 a2 x_355 x_356 fun j_358 M_357 =>
        ((j_352 = j_358 →
          F_L_law_b1950 Q Lc Ls (F_L_law_b18 Q Lc Ls a0 a1 a2 n) a0 a1 a2 x3 (u + c_353) (v + s_354) M_357) ∧
          (¬ j_352 = j_358 →
          Q (0 : Int32) M_357))) ∧
        ((x_2 &&& (63 : Int32)) = (34 : Int32) →
        aI M .int a0 (x3 + (1 : Int32)) fun x_359 =>
        aI M .int a0 (x3 + (2 : Int32)) fun x_360 =>
        ∃ c_363 s_364, (u + c_363 ≤ Lc ∧ v + s_364 ≤ Ls) ∧
        rc M 0 a1 ∧ F_X0_shape c_363 s_364 M a1 x_359 x_360 fun x_362 M_361 =>
        aI M_361 .int a0 (x3 + (1 : Int32)) fun x_365 =>
        aI M_361 .int a0 (x3 + (2 : Int32)) fun x_366 =>
        rc M_361 3 a2 ∧ F_X3_shape M_361 a2 x_365 x_366 fun x_368 M_367 =>
        ((x_362 = x_368 →
          F_L_law_b1950 Q Lc Ls (F_L_law_b18 Q Lc Ls a0 a1 a2 n) a0 a1 a2 x3 (u + c_363) (v + s_364) M_367) ∧
          (¬ x_362 = x_368 →
          Q (0 : Int32) M_367))) ∧
        ((x_2 &&& (63 : Int32)) = (35 : Int32) →
        aI M .int a0 (x3 + (1 : Int32)) fun x_369 =>
        aI M .int a0 (x3 + (2 : Int32)) fun x_370 =>
        ∃ c_373 s_374, (u + c_373 ≤ Lc ∧ v + s_374 ≤ Ls) ∧
        rc M 0 a1 ∧ F_X0_odd_2 c_373 s_374 M a1 x_369 x_370 fun x_372 M_371 =>
        aI M_371 .int a0 (x3 + (1 : Int32)) fun x_375 =>
        aI M_371 .int a0 (x3 + (2 : Int32)) fun x_376 =>
        rc M_371 3 a2 ∧ F_X3_odd M_371 a2 x_375 x_376 fun x_378 M_377 =>
        ((x_372 = x_378 →
          F_L_law_b1950 Q Lc Ls (F_L_law_b18 Q Lc Ls a0 a1 a2 n) a0 a1 a2 x3 (u + c_373) (v + s_374) M_377) ∧
          (¬ x_372 = x_378 →
          Q (0 : Int32) M_377))) ∧
        ((x_2 &&& (63 : Int32)) = (36 : Int32) →
        aI M .int a0 (x3 + (1 : Int32)) fun x_379 =>
        aI M .int a0 (x3 + (2 : Int32)) fun x_380 =>
        aI M .int a0 (x3 + (3 : Int32)) fun x_381 =>
        ∃ c_384 s_385, (u + c_384 ≤ Lc ∧ v + s_385 ≤ Ls) ∧
        rc M 0 a1 ∧ F_X0_judge c_384 s_385 M a1 x_379 x_380 x_381 (fun x_383 M_382 =>
        aI M_382 .int a0 (x3 + (1 : Int32)) fun x_386 =>
        aI M_382 .int a0 (x3 + (2 : Int32)) fun x_387 =>
        aI M_382 .int a0 (x3 + (3 : Int32)) fun x_388 =>
        rc M_382 3 a2 ∧ F_X3_judge M_382 a2 x_386 x_387 x_388 fun x_390 M_389 =>
        ((x_383 = x_390 →
          F_L_law_b1950 Q Lc Ls (F_L_law_b18 Q Lc Ls a0 a1 a2 n) a0 a1 a2 x3 (u + c_384) (v + s_385) M_389) ∧
          (¬ x_383 = x_390 →
          Q (0 : Int32) M_389)))) ∧
        ((x_2 &&& (63 : Int32)) = (37 : Int32) →
        aI M .int a0 (x3 + (1 : Int32)) fun x_391 =>
        aI M .int a0 (x3 + (2 : Int32)) fun x_392 =>
        ∃ c_395 s_396, (u + c_395 ≤ Lc ∧ v + s_396 ≤ Ls) ∧
        rc M 0 a1 ∧ F_X0_join c_395 s_396 M a1 x_391 x_392 (fun x_394 M_393 =>
        aI M_393 .int a0 (x3 + (1 : Int32)) fun x_397 =>
        aI M_393 .int a0 (x3 + (2 : Int32)) fun x_398 =>
        rc M_393 3 a2 ∧ F_X3_join M_393 a2 x_397 x_398 fun x_400 M_399 =>
        ((x_394 = x_400 →
          F_L_law_b1950 Q Lc Ls (F_L_law_b18 Q Lc Ls a0 a1 a2 n) a0 a1 a2 x3 (u + c_395) (v + s_396) M_399) ∧
          (¬ x_394 = x_400 →
          Q (0 : Int32) M_399)))) ∧
        ((x_2 &&& (63 : Int32)) = (38 : Int32) →
        aI M .int a0 (x3 + (1 : Int32)) fun x_401 =>
        aI M .int a0 (x3 + (2 : Int32)) fun x_402 =>
        ∃ c_405 s_406, (u + c_405 ≤ Lc ∧ v + s_406 ≤ Ls) ∧
        rc M 0 a1 ∧ F_X0_saved c_405 s_406 M a1 x_401 x_402 (fun j_404 M_403 =>
        aI M_403 .int a0 (x3 + (1 : Int32)) fun x_407 =>
        aI M_403 .int a0 (x3 + (2 : Int32)) fun x_408 =>
        rc M_403 3 a2 ∧ F_X3_saved M_403 a2 x_407 x_408 fun j_410 M_409 =>
        ((j_404 = j_410 →
          F_L_law_b1950 Q Lc Ls (F_L_law_b18 Q Lc Ls a0 a1 a2 n) a0 a1 a2 x3 (u + c_405) (v + s_406) M_409) ∧
          (¬ j_404 = j_410 →
          Q (0 : Int32) M_409)))) ∧
        ((x_2 &&& (63 : Int32)) = (39 : Int32) →
        aI M .int a0 (x3 + (1 : Int32)) fun x_411 =>
        rc M 0 a1 ∧ F_X0_seed M a1 x_411 fun x_413 M_412 =>
        aI M_412 .int a0 (x3 + (1 : Int32)) fun x_414 =>
        rc M_412 3 a2 ∧ F_X3_seed M_412 a2 x_414 fun x_416 M_415 =>
        ((x_413 = x_416 →
          F_L_law_b1950 Q Lc Ls (F_L_law_b18 Q Lc Ls a0 a1 a2 n) a0 a1 a2 x3 u v M_415) ∧
          (¬ x_413 = x_416 →
          Q (0 : Int32) M_415))) ∧
        ((x_2 &&& (63 : Int32)) = (40 : Int32) →
        aI M .int a0 (x3 + (1 : Int32)) fun x_417 =>
        aI M .int a0 (x3 + (2 : Int32)) fun x_418 =>
        ∃ c_421 s_422, (u + c_421 ≤ Lc ∧ v + s_422 ≤ Ls) ∧
        rc M 0 a1 ∧ F_X0_begin c_421 s_422 M a1 x_417 x_418 (fun x_420 M_419 =>
        aI M_419 .int a0 (x3 + (1 : Int32)) fun x_423 =>
        aI M_419 .int a0 (x3 + (2 : Int32)) fun x_424 =>
        rc M_419 3 a2 ∧ F_X3_begin M_419 a2 x_423 x_424 fun x_426 M_425 =>
        ((x_420 = x_426 →
          F_L_law_b1950 Q Lc Ls (F_L_law_b18 Q Lc Ls a0 a1 a2 n) a0 a1 a2 x3 (u + c_421) (v + s_422) M_425) ∧
          (¬ x_420 = x_426 →
          Q (0 : Int32) M_425)))) ∧
        ((x_2 &&& (63 : Int32)) = (41 : Int32) →
        aI M .int a0 (x3 + (1 : Int32)) fun x_427 =>
        ∃ c_430 s_431, (u + c_430 ≤ Lc ∧ v + s_431 ≤ Ls) ∧
        rc M 0 a1 ∧ F_X0_step c_430 s_431 M a1 x_427 fun x_429 M_428 =>
        aI M_428 .int a0 (x3 + (1 : Int32)) fun x_432 =>
        rc M_428 3 a2 ∧ F_X3_step M_428 a2 x_432 fun x_434 M_433 =>
        ((x_429 = x_434 →
          F_L_law_b1950 Q Lc Ls (F_L_law_b18 Q Lc Ls a0 a1 a2 n) a0 a1 a2 x3 (u + c_430) (v + s_431) M_433) ∧
          (¬ x_429 = x_434 →
          Q (0 : Int32) M_433))) ∧
        ((x_2 &&& (63 : Int32)) = (42 : Int32) →
        aI M .int a0 (x3 + (1 : Int32)) fun x_435 =>
        rc M 0 a1 ∧ F_X0_week M a1 x_435 fun x_437 M_436 =>
        aI M_436 .int a0 (x3 + (1 : Int32)) fun x_438 =>
        rc M_436 3 a2 ∧ F_X3_week M_436 a2 x_438 fun x_440 M_439 =>
        ((x_437 = x_440 →
          F_L_law_b1950 Q Lc Ls (F_L_law_b18 Q Lc Ls a0 a1 a2 n) a0 a1 a2 x3 u v M_439) ∧
          (¬ x_437 = x_440 →
          Q (0 : Int32) M_439))) ∧
        ((x_2 &&& (63 : Int32)) = (43 : Int32) →
        aI M .int a0 (x3 + (1 : Int32)) fun x_441 =>
        aI M .int a0 (x3 + (2 : Int32)) fun x_442 =>
        aI M .int a0 (x3 + (3 : Int32)) fun x_443 =>
        ∃ c_446 s_447, (u + c_446 ≤ Lc ∧ v + s_447 ≤ Ls) ∧
        rc M 0 a1 ∧ F_X0_weeks c_446 s_447 M a1 x_441 x_442 x_443 (fun x_445 M_444 =>
        aI M_444 .int a0 (x3 + (1 : Int32)) fun x_448 =>
        aI M_444 .int a0 (x3 + (2 : Int32)) fun x_449 =>
        aI M_444 .int a0 (x3 + (3 : Int32)) fun x_450 =>
        rc M_444 3 a2 ∧ F_X3_weeks M_444 a2 x_448 x_449 x_450 fun x_452 M_451 =>
        ((x_445 = x_452 →
          F_L_law_b1950 Q Lc Ls (F_L_law_b18 Q Lc Ls a0 a1 a2 n) a0 a1 a2 x3 (u + c_446) (v + s_447) M_451) ∧
          (¬ x_445 = x_452 →
          Q (0 : Int32) M_451)))) ∧
        ((x_2 &&& (63 : Int32)) = (44 : Int32) →
        ∃ c_455 s_456, (u + c_455 ≤ Lc ∧ v + s_456 ≤ Ls) ∧
        rc M 0 a1 ∧ F_X0_image c_455 s_456 M a1 fun x_454 M_453 =>
        ∃ c_459 s_460, ((u + c_455) + c_459 ≤ Lc ∧ (v + s_456) + s_460 ≤ Ls) ∧
        rc M_453 3 a2 ∧ F_X3_image c_459 s_460 M_453 a2 fun x_458 M_457 =>
        ((x_454 = x_458 →
          F_L_law_b1950 Q Lc Ls (F_L_law_b18 Q Lc Ls a0 a1 a2 n) a0 a1 a2 x3 ((u + c_455) + c_459) ((v + s_456) + s_460) M_457) ∧
          (¬ x_454 = x_458 →
          Q (0 : Int32) M_457))) ∧
        ((x_2 &&& (63 : Int32)) = (45 : Int32) →
        ∃ c_463 s_464, (u + c_463 ≤ Lc ∧ v + s_464 ≤ Ls) ∧
        rc M 0 a1 ∧ F_X0_back c_463 s_464 M a1 fun x_462 M_461 =>
        rc M_461 3 a2 ∧ F_X3_back M_461 a2 fun x_466 M_465 =>
        ((x_462 = x_466 →
          F_L_law_b1950 Q Lc Ls (F_L_law_b18 Q Lc Ls a0 a1 a2 n) a0 a1 a2 x3 (u + c_463) (v + s_464) M_465) ∧
          (¬ x_462 = x_466 →
          Q (0 : Int32) M_465))) ∧
        ((x_2 &&& (63 : Int32)) = (46 : Int32) →
        aI M .int a0 (x3 + (1 : Int32)) fun x_467 =>
        rc M 0 a1 ∧ F_X0_status M a1 x_467 fun x_469 M_468 =>
        aI M_468 .int a0 (x3 + (1 : Int32)) fun x_470 =>
        rc M_468 3 a2 ∧ F_X3_status M_468 a2 x_470 fun x_472 M_471 =>
        ((x_469 = x_472 →
          F_L_law_b1950 Q Lc Ls (F_L_law_b18 Q Lc Ls a0 a1 a2 n) a0 a1 a2 x3 u v M_471) ∧
          (¬ x_469 = x_472 →
          Q (0 : Int32) M_471))))))
theorem w_L_law_b18 {G : gG} {Q : Int32 → gM → Prop} {Lc Ls : Nat} (hC : gCx G cL_law 4 RL (some .boolean) (gQi Q) (rm_L_law Lc Ls))  (a0 : Nat) (a1 : Nat) (a2 : Nat)  : ∀ (n : Nat) (x3 : Int32) (u v : Nat) (hu : u ≤ Lc ∧ v ≤ Ls) (M : gM), F_L_law_b18 Q Lc Ls a0 a1 a2 n x3 u v M → gAt G u v M [(0, .ref a0), (1, .ref a1), (2, .ref a2), (3, .int x3)] 18 [] := by
  intro n
  induction n with
  | zero =>
    intro x3 u v hu M hF
    exact hF.elim
  | succ n ih =>
    intro x3 u v hu M hF
    have hK18 := ih
    unfold F_L_law_b18 at hF
    refine g_iload_n 19 hC dL_law_18 rfl 3 rfl rfl ?_
    refine g_aload_n 20 hC dL_law_19 rfl 0 rfl rfl ?_
    refine g_alen 21 hC hF dL_law_20 rfl (fun x_1 hF => ?_)
    refine g_bipush 23 hC (6 : Int32) dL_law_21 (by decide) rfl ?_
    refine g_isub 24 hC dL_law_23 rfl ?_
    refine g_icmp_gt 27 1956 hC dL_law_24 (by decide) rfl (fun c => ?_) (fun c => ?_)
    · have hF := hF.1 c
      refine g_iconst 1957 hC (1 : Int32) dL_law_1956 (by decide) rfl ?_
      exact g_zreturn hC ⟨_, rfl, hF⟩ (Or.inr rfl) dL_law_1957 hu.1 hu.2
    · have hF := hF.2 c
      refine g_aload_n 28 hC dL_law_27 rfl 0 rfl rfl ?_
      refine g_iload_n 29 hC dL_law_28 rfl 3 rfl rfl ?_
      refine g_iald 30 hC hF dL_law_29 rfl (fun x_2 hF => ?_)
      refine g_bipush 32 hC (63 : Int32) dL_law_30 (by decide) rfl ?_
      refine g_iand 33 hC dL_law_32 rfl ?_
      rcases (by omega : (((x_2 &&& (63 : Int32)).toInt < 0 ∨ 46 < (x_2 &&& (63 : Int32)).toInt) ∨ (x_2 &&& (63 : Int32)).toInt = 0 ∨ (x_2 &&& (63 : Int32)).toInt = 1 ∨ (x_2 &&& (63 : Int32)).toInt = 2 ∨ (x_2 &&& (63 : Int32)).toInt = 3 ∨ (x_2 &&& (63 : Int32)).toInt = 4 ∨ (x_2 &&& (63 : Int32)).toInt = 5 ∨ (x_2 &&& (63 : Int32)).toInt = 6 ∨ (x_2 &&& (63 : Int32)).toInt = 7 ∨ (x_2 &&& (63 : Int32)).toInt = 8 ∨ (x_2 &&& (63 : Int32)).toInt = 9 ∨ (x_2 &&& (63 : Int32)).toInt = 10 ∨ (x_2 &&& (63 : Int32)).toInt = 11 ∨ (x_2 &&& (63 : Int32)).toInt = 12 ∨ (x_2 &&& (63 : Int32)).toInt = 13 ∨ (x_2 &&& (63 : Int32)).toInt = 14 ∨ (x_2 &&& (63 : Int32)).toInt = 15 ∨ (x_2 &&& (63 : Int32)).toInt = 16 ∨ (x_2 &&& (63 : Int32)).toInt = 17 ∨ (x_2 &&& (63 : Int32)).toInt = 18 ∨ (x_2 &&& (63 : Int32)).toInt = 19 ∨ (x_2 &&& (63 : Int32)).toInt = 20 ∨ (x_2 &&& (63 : Int32)).toInt = 21 ∨ (x_2 &&& (63 : Int32)).toInt = 22 ∨ (x_2 &&& (63 : Int32)).toInt = 23 ∨ (x_2 &&& (63 : Int32)).toInt = 24 ∨ (x_2 &&& (63 : Int32)).toInt = 25 ∨ (x_2 &&& (63 : Int32)).toInt = 26 ∨ (x_2 &&& (63 : Int32)).toInt = 27 ∨ (x_2 &&& (63 : Int32)).toInt = 28 ∨ (x_2 &&& (63 : Int32)).toInt = 29 ∨ (x_2 &&& (63 : Int32)).toInt = 30 ∨ (x_2 &&& (63 : Int32)).toInt = 31 ∨ (x_2 &&& (63 : Int32)).toInt = 32 ∨ (x_2 &&& (63 : Int32)).toInt = 33 ∨ (x_2 &&& (63 : Int32)).toInt = 34 ∨ (x_2 &&& (63 : Int32)).toInt = 35 ∨ (x_2 &&& (63 : Int32)).toInt = 36 ∨ (x_2 &&& (63 : Int32)).toInt = 37 ∨ (x_2 &&& (63 : Int32)).toInt = 38 ∨ (x_2 &&& (63 : Int32)).toInt = 39 ∨ (x_2 &&& (63 : Int32)).toInt = 40 ∨ (x_2 &&& (63 : Int32)).toInt = 41 ∨ (x_2 &&& (63 : Int32)).toInt = 42 ∨ (x_2 &&& (63 : Int32)).toInt = 43 ∨ (x_2 &&& (63 : Int32)).toInt = 44 ∨ (x_2 &&& (63 : Int32)).toInt = 45 ∨ (x_2 &&& (63 : Int32)).toInt = 46)) with c | c | c | c | c | c | c | c | c | c | c | c | c | c | c | c | c | c | c | c | c | c | c | c | c | c | c | c | c | c | c | c | c | c | c | c | c | c | c | c | c | c | c | c | c | c | c | c
      · refine g_tsOut 1950 hC dL_law_33 c (by decide) ?_
        have hF := hF.1 c
        exact w_L_law_b1950 hC _ _ _ _ _ hK18 _ _ hu _ hF
      · have c : (x_2 &&& (63 : Int32)) = (0 : Int32) := Int32.toInt_inj.mp (c.trans (by decide))
        refine g_tsIn 236 hC (0 : Int32) c dL_law_33 (by decide) (by decide) rfl (by decide) ?_
        have hF := hF.2.1 c
        refine g_aload_n 237 hC dL_law_236 rfl 1 rfl rfl ?_
        refine g_aload_n 238 hC dL_law_237 rfl 0 rfl rfl ?_
        refine g_iload_n 239 hC dL_law_238 rfl 3 rfl rfl ?_
        refine g_iconst 240 hC (1 : Int32) dL_law_239 (by decide) rfl ?_
        refine g_iadd 241 hC dL_law_240 rfl ?_
        refine g_iald 242 hC hF dL_law_241 rfl (fun x_3 hF => ?_)
        refine g_aload_n 243 hC dL_law_242 rfl 0 rfl rfl ?_
        refine g_iload_n 244 hC dL_law_243 rfl 3 rfl rfl ?_
        refine g_iconst 245 hC (2 : Int32) dL_law_244 (by decide) rfl ?_
        refine g_iadd 246 hC dL_law_245 rfl ?_
        refine g_iald 247 hC hF dL_law_246 rfl (fun x_4 hF => ?_)
        refine g_aload_n 248 hC dL_law_247 rfl 0 rfl rfl ?_
        refine g_iload_n 249 hC dL_law_248 rfl 3 rfl rfl ?_
        refine g_iconst 250 hC (3 : Int32) dL_law_249 (by decide) rfl ?_
        refine g_iadd 251 hC dL_law_250 rfl ?_
        refine g_iald 252 hC hF dL_law_251 rfl (fun x_5 hF => ?_)
        obtain ⟨c_8, s_9, hu, hF⟩ := hF
        refine g_xVW (rest := []) wl_L_13 hd_X0_row (ci := 0) rfl 255 hC hF.1 (met_X0_row hF.2) rfl ⟨Nat.le_of_ble_eq_true rfl, Nat.le_of_ble_eq_true rfl⟩ hu rfl (Nat.le_of_ble_eq_true rfl) dL_law_252 rfl (g_ty_i (u + c_8) (v + s_9) (Nat.le_refl _) (Nat.le_refl _) (fun x_7 M_6 hF => ?_)) (fun _ _ _ h => h.elim)
        refine g_aload_n 256 hC dL_law_255 rfl 2 rfl rfl ?_
        refine g_aload_n 257 hC dL_law_256 rfl 0 rfl rfl ?_
        refine g_iload_n 258 hC dL_law_257 rfl 3 rfl rfl ?_
        refine g_iconst 259 hC (1 : Int32) dL_law_258 (by decide) rfl ?_
        refine g_iadd 260 hC dL_law_259 rfl ?_
        refine g_iald 261 hC hF dL_law_260 rfl (fun x_10 hF => ?_)
        refine g_aload_n 262 hC dL_law_261 rfl 0 rfl rfl ?_
        refine g_iload_n 263 hC dL_law_262 rfl 3 rfl rfl ?_
        refine g_iconst 264 hC (2 : Int32) dL_law_263 (by decide) rfl ?_
        refine g_iadd 265 hC dL_law_264 rfl ?_
        refine g_iald 266 hC hF dL_law_265 rfl (fun x_11 hF => ?_)
        refine g_aload_n 267 hC dL_law_266 rfl 0 rfl rfl ?_
        refine g_iload_n 268 hC dL_law_267 rfl 3 rfl rfl ?_
        refine g_iconst 269 hC (3 : Int32) dL_law_268 (by decide) rfl ?_
        refine g_iadd 270 hC dL_law_269 rfl ?_
        refine g_iald 271 hC hF dL_law_270 rfl (fun x_12 hF => ?_)
        refine g_cV (rest := [_]) wl_L_17 hd_X3_row (ci := 3) rfl 274 hC hF.1 (met_X3_row hF.2) rfl ⟨Nat.le_of_ble_eq_true rfl, Nat.le_of_ble_eq_true rfl⟩ hu rfl (Nat.le_of_ble_eq_true rfl) dL_law_271 rfl (g_ty_i (u + c_8) (v + s_9) (Nat.le_refl _) (Nat.le_refl _) (fun x_14 M_13 hF => ?_))
        refine g_icmp_eq 277 1950 hC dL_law_274 (by decide) rfl (fun c => ?_) (fun c => ?_)
        · have hF := hF.1 c
          exact w_L_law_b1950 hC _ _ _ _ _ hK18 _ _ hu _ hF
        · have hF := hF.2 c
          refine g_iconst 278 hC (0 : Int32) dL_law_277 (by decide) rfl ?_
          exact g_zreturn hC ⟨_, rfl, hF⟩ (Or.inl rfl) dL_law_278 hu.1 hu.2
      · have c : (x_2 &&& (63 : Int32)) = (1 : Int32) := Int32.toInt_inj.mp (c.trans (by decide))
        refine g_tsIn 279 hC (1 : Int32) c dL_law_33 (by decide) (by decide) rfl (by decide) ?_
        have hF := hF.2.2.1 c
        refine g_aload_n 280 hC dL_law_279 rfl 1 rfl rfl ?_
        refine g_aload_n 281 hC dL_law_280 rfl 0 rfl rfl ?_
        refine g_iload_n 282 hC dL_law_281 rfl 3 rfl rfl ?_
        refine g_iconst 283 hC (1 : Int32) dL_law_282 (by decide) rfl ?_
        refine g_iadd 284 hC dL_law_283 rfl ?_
        refine g_iald 285 hC hF dL_law_284 rfl (fun x_15 hF => ?_)
        refine g_aload_n 286 hC dL_law_285 rfl 0 rfl rfl ?_
        refine g_iload_n 287 hC dL_law_286 rfl 3 rfl rfl ?_
        refine g_iconst 288 hC (2 : Int32) dL_law_287 (by decide) rfl ?_
        refine g_iadd 289 hC dL_law_288 rfl ?_
        refine g_iald 290 hC hF dL_law_289 rfl (fun x_16 hF => ?_)
        refine g_aload_n 291 hC dL_law_290 rfl 0 rfl rfl ?_
        refine g_iload_n 292 hC dL_law_291 rfl 3 rfl rfl ?_
        refine g_iconst 293 hC (3 : Int32) dL_law_292 (by decide) rfl ?_
        refine g_iadd 294 hC dL_law_293 rfl ?_
        refine g_iald 295 hC hF dL_law_294 rfl (fun x_17 hF => ?_)
        refine g_i2l 296 hC dL_law_295 rfl ?_
        refine g_bipush 298 hC (32 : Int32) dL_law_296 (by decide) rfl ?_
        refine g_lshl 299 hC dL_law_298 rfl ?_
        refine g_aload_n 300 hC dL_law_299 rfl 0 rfl rfl ?_
        refine g_iload_n 301 hC dL_law_300 rfl 3 rfl rfl ?_
        refine g_iconst 302 hC (4 : Int32) dL_law_301 (by decide) rfl ?_
        refine g_iadd 303 hC dL_law_302 rfl ?_
        refine g_iald 304 hC hF dL_law_303 rfl (fun x_18 hF => ?_)
        refine g_i2l 305 hC dL_law_304 rfl ?_
        refine g_ldc2 308 hC q1947 dL_law_305 rfl ?_
        refine g_land 309 hC dL_law_308 rfl ?_
        refine g_lor 310 hC dL_law_309 rfl ?_
        obtain ⟨c_21, s_22, hu, hF⟩ := hF
        refine g_xVW (rest := []) wl_L_20 hd_X0_set (ci := 0) rfl 313 hC hF.1 (met_X0_set hF.2) rfl ⟨Nat.le_of_ble_eq_true rfl, Nat.le_of_ble_eq_true rfl⟩ hu rfl (Nat.le_of_ble_eq_true rfl) dL_law_310 rfl (g_ty_i (u + c_21) (v + s_22) (Nat.le_refl _) (Nat.le_refl _) (fun x_20 M_19 hF => ?_)) (fun _ _ _ h => h.elim)
        refine g_aload_n 314 hC dL_law_313 rfl 2 rfl rfl ?_
        refine g_aload_n 315 hC dL_law_314 rfl 0 rfl rfl ?_
        refine g_iload_n 316 hC dL_law_315 rfl 3 rfl rfl ?_
        refine g_iconst 317 hC (1 : Int32) dL_law_316 (by decide) rfl ?_
        refine g_iadd 318 hC dL_law_317 rfl ?_
        refine g_iald 319 hC hF dL_law_318 rfl (fun x_23 hF => ?_)
        refine g_aload_n 320 hC dL_law_319 rfl 0 rfl rfl ?_
        refine g_iload_n 321 hC dL_law_320 rfl 3 rfl rfl ?_
        refine g_iconst 322 hC (2 : Int32) dL_law_321 (by decide) rfl ?_
        refine g_iadd 323 hC dL_law_322 rfl ?_
        refine g_iald 324 hC hF dL_law_323 rfl (fun x_24 hF => ?_)
        refine g_aload_n 325 hC dL_law_324 rfl 0 rfl rfl ?_
        refine g_iload_n 326 hC dL_law_325 rfl 3 rfl rfl ?_
        refine g_iconst 327 hC (3 : Int32) dL_law_326 (by decide) rfl ?_
        refine g_iadd 328 hC dL_law_327 rfl ?_
        refine g_iald 329 hC hF dL_law_328 rfl (fun x_25 hF => ?_)
        refine g_i2l 330 hC dL_law_329 rfl ?_
        refine g_bipush 332 hC (32 : Int32) dL_law_330 (by decide) rfl ?_
        refine g_lshl 333 hC dL_law_332 rfl ?_
        refine g_aload_n 334 hC dL_law_333 rfl 0 rfl rfl ?_
        refine g_iload_n 335 hC dL_law_334 rfl 3 rfl rfl ?_
        refine g_iconst 336 hC (4 : Int32) dL_law_335 (by decide) rfl ?_
        refine g_iadd 337 hC dL_law_336 rfl ?_
        refine g_iald 338 hC hF dL_law_337 rfl (fun x_26 hF => ?_)
        refine g_i2l 339 hC dL_law_338 rfl ?_
        refine g_ldc2 342 hC q1947 dL_law_339 rfl ?_
        refine g_land 343 hC dL_law_342 rfl ?_
        refine g_lor 344 hC dL_law_343 rfl ?_
        refine g_cV (rest := [_]) wl_L_24 hd_X3_set (ci := 3) rfl 347 hC hF.1 (met_X3_set hF.2) rfl ⟨Nat.le_of_ble_eq_true rfl, Nat.le_of_ble_eq_true rfl⟩ hu rfl (Nat.le_of_ble_eq_true rfl) dL_law_344 rfl (g_ty_i (u + c_21) (v + s_22) (Nat.le_refl _) (Nat.le_refl _) (fun x_28 M_27 hF => ?_))
        refine g_icmp_eq 350 1950 hC dL_law_347 (by decide) rfl (fun c => ?_) (fun c => ?_)
        · have hF := hF.1 c
          exact w_L_law_b1950 hC _ _ _ _ _ hK18 _ _ hu _ hF
        · have hF := hF.2 c
          refine g_iconst 351 hC (0 : Int32) dL_law_350 (by decide) rfl ?_
          exact g_zreturn hC ⟨_, rfl, hF⟩ (Or.inl rfl) dL_law_351 hu.1 hu.2
      · have c : (x_2 &&& (63 : Int32)) = (2 : Int32) := Int32.toInt_inj.mp (c.trans (by decide))
        refine g_tsIn 352 hC (2 : Int32) c dL_law_33 (by decide) (by decide) rfl (by decide) ?_
        have hF := hF.2.2.2.1 c
        refine g_aload_n 353 hC dL_law_352 rfl 1 rfl rfl ?_
        refine g_aload_n 354 hC dL_law_353 rfl 0 rfl rfl ?_
        refine g_iload_n 355 hC dL_law_354 rfl 3 rfl rfl ?_
        refine g_iconst 356 hC (1 : Int32) dL_law_355 (by decide) rfl ?_
        refine g_iadd 357 hC dL_law_356 rfl ?_
        refine g_iald 358 hC hF dL_law_357 rfl (fun x_29 hF => ?_)
        refine g_aload_n 359 hC dL_law_358 rfl 0 rfl rfl ?_
        refine g_iload_n 360 hC dL_law_359 rfl 3 rfl rfl ?_
        refine g_iconst 361 hC (2 : Int32) dL_law_360 (by decide) rfl ?_
        refine g_iadd 362 hC dL_law_361 rfl ?_
        refine g_iald 363 hC hF dL_law_362 rfl (fun x_30 hF => ?_)
        refine g_aload_n 364 hC dL_law_363 rfl 0 rfl rfl ?_
        refine g_iload_n 365 hC dL_law_364 rfl 3 rfl rfl ?_
        refine g_iconst 366 hC (3 : Int32) dL_law_365 (by decide) rfl ?_
        refine g_iadd 367 hC dL_law_366 rfl ?_
        refine g_iald 368 hC hF dL_law_367 rfl (fun x_31 hF => ?_)
        refine g_aload_n 369 hC dL_law_368 rfl 0 rfl rfl ?_
        refine g_iload_n 370 hC dL_law_369 rfl 3 rfl rfl ?_
        refine g_iconst 371 hC (4 : Int32) dL_law_370 (by decide) rfl ?_
        refine g_iadd 372 hC dL_law_371 rfl ?_
        refine g_iald 373 hC hF dL_law_372 rfl (fun x_32 hF => ?_)
        refine g_aload_n 374 hC dL_law_373 rfl 0 rfl rfl ?_
        refine g_iload_n 375 hC dL_law_374 rfl 3 rfl rfl ?_
        refine g_iconst 376 hC (5 : Int32) dL_law_375 (by decide) rfl ?_
        refine g_iadd 377 hC dL_law_376 rfl ?_
        refine g_iald 378 hC hF dL_law_377 rfl (fun x_33 hF => ?_)
        obtain ⟨c_36, s_37, hu, hF⟩ := hF
        refine g_xVW (rest := []) wl_L_25 hd_X0_copy (ci := 0) rfl 381 hC hF.1 (met_X0_copy hF.2) rfl ⟨Nat.le_of_ble_eq_true rfl, Nat.le_of_ble_eq_true rfl⟩ hu rfl (Nat.le_of_ble_eq_true rfl) dL_law_378 rfl (g_ty_i (u + c_36) (v + s_37) (Nat.le_refl _) (Nat.le_refl _) (fun x_35 M_34 hF => ?_)) (fun _ _ _ h => h.elim)
        refine g_aload_n 382 hC dL_law_381 rfl 2 rfl rfl ?_
        refine g_aload_n 383 hC dL_law_382 rfl 0 rfl rfl ?_
        refine g_iload_n 384 hC dL_law_383 rfl 3 rfl rfl ?_
        refine g_iconst 385 hC (1 : Int32) dL_law_384 (by decide) rfl ?_
        refine g_iadd 386 hC dL_law_385 rfl ?_
        refine g_iald 387 hC hF dL_law_386 rfl (fun x_38 hF => ?_)
        refine g_aload_n 388 hC dL_law_387 rfl 0 rfl rfl ?_
        refine g_iload_n 389 hC dL_law_388 rfl 3 rfl rfl ?_
        refine g_iconst 390 hC (2 : Int32) dL_law_389 (by decide) rfl ?_
        refine g_iadd 391 hC dL_law_390 rfl ?_
        refine g_iald 392 hC hF dL_law_391 rfl (fun x_39 hF => ?_)
        refine g_aload_n 393 hC dL_law_392 rfl 0 rfl rfl ?_
        refine g_iload_n 394 hC dL_law_393 rfl 3 rfl rfl ?_
        refine g_iconst 395 hC (3 : Int32) dL_law_394 (by decide) rfl ?_
        refine g_iadd 396 hC dL_law_395 rfl ?_
        refine g_iald 397 hC hF dL_law_396 rfl (fun x_40 hF => ?_)
        refine g_aload_n 398 hC dL_law_397 rfl 0 rfl rfl ?_
        refine g_iload_n 399 hC dL_law_398 rfl 3 rfl rfl ?_
        refine g_iconst 400 hC (4 : Int32) dL_law_399 (by decide) rfl ?_
        refine g_iadd 401 hC dL_law_400 rfl ?_
        refine g_iald 402 hC hF dL_law_401 rfl (fun x_41 hF => ?_)
        refine g_aload_n 403 hC dL_law_402 rfl 0 rfl rfl ?_
        refine g_iload_n 404 hC dL_law_403 rfl 3 rfl rfl ?_
        refine g_iconst 405 hC (5 : Int32) dL_law_404 (by decide) rfl ?_
        refine g_iadd 406 hC dL_law_405 rfl ?_
        refine g_iald 407 hC hF dL_law_406 rfl (fun x_42 hF => ?_)
        refine g_cV (rest := [_]) wl_L_29 hd_X3_copy (ci := 3) rfl 410 hC hF.1 (met_X3_copy hF.2) rfl ⟨Nat.le_of_ble_eq_true rfl, Nat.le_of_ble_eq_true rfl⟩ hu rfl (Nat.le_of_ble_eq_true rfl) dL_law_407 rfl (g_ty_i (u + c_36) (v + s_37) (Nat.le_refl _) (Nat.le_refl _) (fun x_44 M_43 hF => ?_))
        refine g_icmp_eq 413 1950 hC dL_law_410 (by decide) rfl (fun c => ?_) (fun c => ?_)
        · have hF := hF.1 c
          exact w_L_law_b1950 hC _ _ _ _ _ hK18 _ _ hu _ hF
        · have hF := hF.2 c
          refine g_iconst 414 hC (0 : Int32) dL_law_413 (by decide) rfl ?_
          exact g_zreturn hC ⟨_, rfl, hF⟩ (Or.inl rfl) dL_law_414 hu.1 hu.2
      · have c : (x_2 &&& (63 : Int32)) = (3 : Int32) := Int32.toInt_inj.mp (c.trans (by decide))
        refine g_tsIn 415 hC (3 : Int32) c dL_law_33 (by decide) (by decide) rfl (by decide) ?_
        have hF := hF.2.2.2.2.1 c
        refine g_aload_n 416 hC dL_law_415 rfl 1 rfl rfl ?_
        refine g_aload_n 417 hC dL_law_416 rfl 0 rfl rfl ?_
        refine g_iload_n 418 hC dL_law_417 rfl 3 rfl rfl ?_
        refine g_iconst 419 hC (1 : Int32) dL_law_418 (by decide) rfl ?_
        refine g_iadd 420 hC dL_law_419 rfl ?_
        refine g_iald 421 hC hF dL_law_420 rfl (fun x_45 hF => ?_)
        refine g_aload_n 422 hC dL_law_421 rfl 0 rfl rfl ?_
        refine g_iload_n 423 hC dL_law_422 rfl 3 rfl rfl ?_
        refine g_iconst 424 hC (2 : Int32) dL_law_423 (by decide) rfl ?_
        refine g_iadd 425 hC dL_law_424 rfl ?_
        refine g_iald 426 hC hF dL_law_425 rfl (fun x_46 hF => ?_)
        obtain ⟨c_49, s_50, hu, hF⟩ := hF
        refine g_xVW (rest := []) wl_L_30 hd_X0_element (ci := 0) rfl 429 hC hF.1 (met_X0_element hF.2) rfl ⟨Nat.le_of_ble_eq_true rfl, Nat.le_of_ble_eq_true rfl⟩ hu rfl (Nat.le_of_ble_eq_true rfl) dL_law_426 rfl (g_ty_j (u + c_49) (v + s_50) (Nat.le_refl _) (Nat.le_refl _) (fun j_48 M_47 hF => ?_)) (fun _ _ _ h => h.elim)
        refine g_aload_n 430 hC dL_law_429 rfl 2 rfl rfl ?_
        refine g_aload_n 431 hC dL_law_430 rfl 0 rfl rfl ?_
        refine g_iload_n 432 hC dL_law_431 rfl 3 rfl rfl ?_
        refine g_iconst 433 hC (1 : Int32) dL_law_432 (by decide) rfl ?_
        refine g_iadd 434 hC dL_law_433 rfl ?_
        refine g_iald 435 hC hF dL_law_434 rfl (fun x_51 hF => ?_)
        refine g_aload_n 436 hC dL_law_435 rfl 0 rfl rfl ?_
        refine g_iload_n 437 hC dL_law_436 rfl 3 rfl rfl ?_
        refine g_iconst 438 hC (2 : Int32) dL_law_437 (by decide) rfl ?_
        refine g_iadd 439 hC dL_law_438 rfl ?_
        refine g_iald 440 hC hF dL_law_439 rfl (fun x_52 hF => ?_)
        refine g_cV (rest := [_]) wl_L_34 hd_X3_element (ci := 3) rfl 443 hC hF.1 (met_X3_element hF.2) rfl ⟨Nat.le_of_ble_eq_true rfl, Nat.le_of_ble_eq_true rfl⟩ hu rfl (Nat.le_of_ble_eq_true rfl) dL_law_440 rfl (g_ty_j (u + c_49) (v + s_50) (Nat.le_refl _) (Nat.le_refl _) (fun j_54 M_53 hF => ?_))
        refine g_lcmp_eq 447 1950 hC dL_law_443 rfl dL_law_444 (by decide) rfl (fun c => ?_) (fun c => ?_)
        · have hF := hF.1 c
          exact w_L_law_b1950 hC _ _ _ _ _ hK18 _ _ hu _ hF
        · have hF := hF.2 c
          refine g_iconst 448 hC (0 : Int32) dL_law_447 (by decide) rfl ?_
          exact g_zreturn hC ⟨_, rfl, hF⟩ (Or.inl rfl) dL_law_448 hu.1 hu.2
      · have c : (x_2 &&& (63 : Int32)) = (4 : Int32) := Int32.toInt_inj.mp (c.trans (by decide))
        refine g_tsIn 449 hC (4 : Int32) c dL_law_33 (by decide) (by decide) rfl (by decide) ?_
        have hF := hF.2.2.2.2.2.1 c
        refine g_aload_n 450 hC dL_law_449 rfl 1 rfl rfl ?_
        refine g_aload_n 451 hC dL_law_450 rfl 0 rfl rfl ?_
        refine g_iload_n 452 hC dL_law_451 rfl 3 rfl rfl ?_
        refine g_iconst 453 hC (1 : Int32) dL_law_452 (by decide) rfl ?_
        refine g_iadd 454 hC dL_law_453 rfl ?_
        refine g_iald 455 hC hF dL_law_454 rfl (fun x_55 hF => ?_)
        refine g_cV (rest := []) wl_L_35 hd_X0_holds (ci := 0) rfl 458 hC hF.1 (met_X0_holds hF.2) rfl ⟨Nat.le_of_ble_eq_true rfl, Nat.le_of_ble_eq_true rfl⟩ hu rfl (Nat.le_of_ble_eq_true rfl) dL_law_455 rfl (g_ty_i u v (Nat.le_refl _) (Nat.le_refl _) (fun x_57 M_56 hF => ?_))
        refine g_aload_n 459 hC dL_law_458 rfl 2 rfl rfl ?_
        refine g_aload_n 460 hC dL_law_459 rfl 0 rfl rfl ?_
        refine g_iload_n 461 hC dL_law_460 rfl 3 rfl rfl ?_
        refine g_iconst 462 hC (1 : Int32) dL_law_461 (by decide) rfl ?_
        refine g_iadd 463 hC dL_law_462 rfl ?_
        refine g_iald 464 hC hF dL_law_463 rfl (fun x_58 hF => ?_)
        refine g_cV (rest := [_]) wl_L_39 hd_X3_holds (ci := 3) rfl 467 hC hF.1 (met_X3_holds hF.2) rfl ⟨Nat.le_of_ble_eq_true rfl, Nat.le_of_ble_eq_true rfl⟩ hu rfl (Nat.le_of_ble_eq_true rfl) dL_law_464 rfl (g_ty_i u v (Nat.le_refl _) (Nat.le_refl _) (fun x_60 M_59 hF => ?_))
        refine g_icmp_eq 470 1950 hC dL_law_467 (by decide) rfl (fun c => ?_) (fun c => ?_)
        · have hF := hF.1 c
          exact w_L_law_b1950 hC _ _ _ _ _ hK18 _ _ hu _ hF
        · have hF := hF.2 c
          refine g_iconst 471 hC (0 : Int32) dL_law_470 (by decide) rfl ?_
          exact g_zreturn hC ⟨_, rfl, hF⟩ (Or.inl rfl) dL_law_471 hu.1 hu.2
      · have c : (x_2 &&& (63 : Int32)) = (5 : Int32) := Int32.toInt_inj.mp (c.trans (by decide))
        refine g_tsIn 472 hC (5 : Int32) c dL_law_33 (by decide) (by decide) rfl (by decide) ?_
        have hF := hF.2.2.2.2.2.2.1 c
        refine g_aload_n 473 hC dL_law_472 rfl 1 rfl rfl ?_
        refine g_aload_n 474 hC dL_law_473 rfl 0 rfl rfl ?_
        refine g_iload_n 475 hC dL_law_474 rfl 3 rfl rfl ?_
        refine g_iconst 476 hC (1 : Int32) dL_law_475 (by decide) rfl ?_
        refine g_iadd 477 hC dL_law_476 rfl ?_
        refine g_iald 478 hC hF dL_law_477 rfl (fun x_61 hF => ?_)
        refine g_aload_n 479 hC dL_law_478 rfl 0 rfl rfl ?_
        refine g_iload_n 480 hC dL_law_479 rfl 3 rfl rfl ?_
        refine g_iconst 481 hC (2 : Int32) dL_law_480 (by decide) rfl ?_
        refine g_iadd 482 hC dL_law_481 rfl ?_
        refine g_iald 483 hC hF dL_law_482 rfl (fun x_62 hF => ?_)
        refine g_aload_n 484 hC dL_law_483 rfl 0 rfl rfl ?_
        refine g_iload_n 485 hC dL_law_484 rfl 3 rfl rfl ?_
        refine g_iconst 486 hC (3 : Int32) dL_law_485 (by decide) rfl ?_
        refine g_iadd 487 hC dL_law_486 rfl ?_
        refine g_iald 488 hC hF dL_law_487 rfl (fun x_63 hF => ?_)
        obtain ⟨c_66, s_67, hu, hF⟩ := hF
        refine g_xVW (rest := []) wl_L_40 hd_X0_rule (ci := 0) rfl 491 hC hF.1 (met_X0_rule hF.2) rfl ⟨Nat.le_of_ble_eq_true rfl, Nat.le_of_ble_eq_true rfl⟩ hu rfl (Nat.le_of_ble_eq_true rfl) dL_law_488 rfl (g_ty_i (u + c_66) (v + s_67) (Nat.le_refl _) (Nat.le_refl _) (fun x_65 M_64 hF => ?_)) (fun _ _ _ h => h.elim)
        refine g_aload_n 492 hC dL_law_491 rfl 2 rfl rfl ?_
        refine g_aload_n 493 hC dL_law_492 rfl 0 rfl rfl ?_
        refine g_iload_n 494 hC dL_law_493 rfl 3 rfl rfl ?_
        refine g_iconst 495 hC (1 : Int32) dL_law_494 (by decide) rfl ?_
        refine g_iadd 496 hC dL_law_495 rfl ?_
        refine g_iald 497 hC hF dL_law_496 rfl (fun x_68 hF => ?_)
        refine g_aload_n 498 hC dL_law_497 rfl 0 rfl rfl ?_
        refine g_iload_n 499 hC dL_law_498 rfl 3 rfl rfl ?_
        refine g_iconst 500 hC (2 : Int32) dL_law_499 (by decide) rfl ?_
        refine g_iadd 501 hC dL_law_500 rfl ?_
        refine g_iald 502 hC hF dL_law_501 rfl (fun x_69 hF => ?_)
        refine g_aload_n 503 hC dL_law_502 rfl 0 rfl rfl ?_
        refine g_iload_n 504 hC dL_law_503 rfl 3 rfl rfl ?_
        refine g_iconst 505 hC (3 : Int32) dL_law_504 (by decide) rfl ?_
        refine g_iadd 506 hC dL_law_505 rfl ?_
        refine g_iald 507 hC hF dL_law_506 rfl (fun x_70 hF => ?_)
        refine g_cV (rest := [_]) wl_L_43 hd_X3_rule (ci := 3) rfl 510 hC hF.1 (met_X3_rule hF.2) rfl ⟨Nat.le_of_ble_eq_true rfl, Nat.le_of_ble_eq_true rfl⟩ hu rfl (Nat.le_of_ble_eq_true rfl) dL_law_507 rfl (g_ty_i (u + c_66) (v + s_67) (Nat.le_refl _) (Nat.le_refl _) (fun x_72 M_71 hF => ?_))
        refine g_icmp_eq 513 1950 hC dL_law_510 (by decide) rfl (fun c => ?_) (fun c => ?_)
        · have hF := hF.1 c
          exact w_L_law_b1950 hC _ _ _ _ _ hK18 _ _ hu _ hF
        · have hF := hF.2 c
          refine g_iconst 514 hC (0 : Int32) dL_law_513 (by decide) rfl ?_
          exact g_zreturn hC ⟨_, rfl, hF⟩ (Or.inl rfl) dL_law_514 hu.1 hu.2
      · have c : (x_2 &&& (63 : Int32)) = (6 : Int32) := Int32.toInt_inj.mp (c.trans (by decide))
        refine g_tsIn 515 hC (6 : Int32) c dL_law_33 (by decide) (by decide) rfl (by decide) ?_
        have hF := hF.2.2.2.2.2.2.2.1 c
        refine g_aload_n 516 hC dL_law_515 rfl 1 rfl rfl ?_
        refine g_aload_n 517 hC dL_law_516 rfl 0 rfl rfl ?_
        refine g_iload_n 518 hC dL_law_517 rfl 3 rfl rfl ?_
        refine g_iconst 519 hC (1 : Int32) dL_law_518 (by decide) rfl ?_
        refine g_iadd 520 hC dL_law_519 rfl ?_
        refine g_iald 521 hC hF dL_law_520 rfl (fun x_73 hF => ?_)
        refine g_aload_n 522 hC dL_law_521 rfl 0 rfl rfl ?_
        refine g_iload_n 523 hC dL_law_522 rfl 3 rfl rfl ?_
        refine g_iconst 524 hC (2 : Int32) dL_law_523 (by decide) rfl ?_
        refine g_iadd 525 hC dL_law_524 rfl ?_
        refine g_iald 526 hC hF dL_law_525 rfl (fun x_74 hF => ?_)
        obtain ⟨c_77, s_78, hu, hF⟩ := hF
        refine g_xVW (rest := []) wl_L_44 hd_X0_says (ci := 0) rfl 529 hC hF.1 (met_X0_says hF.2) rfl ⟨Nat.le_of_ble_eq_true rfl, Nat.le_of_ble_eq_true rfl⟩ hu rfl (Nat.le_of_ble_eq_true rfl) dL_law_526 rfl (g_ty_i (u + c_77) (v + s_78) (Nat.le_refl _) (Nat.le_refl _) (fun x_76 M_75 hF => ?_)) (fun _ _ _ h => h.elim)
        refine g_aload_n 530 hC dL_law_529 rfl 2 rfl rfl ?_
        refine g_aload_n 531 hC dL_law_530 rfl 0 rfl rfl ?_
        refine g_iload_n 532 hC dL_law_531 rfl 3 rfl rfl ?_
        refine g_iconst 533 hC (1 : Int32) dL_law_532 (by decide) rfl ?_
        refine g_iadd 534 hC dL_law_533 rfl ?_
        refine g_iald 535 hC hF dL_law_534 rfl (fun x_79 hF => ?_)
        refine g_aload_n 536 hC dL_law_535 rfl 0 rfl rfl ?_
        refine g_iload_n 537 hC dL_law_536 rfl 3 rfl rfl ?_
        refine g_iconst 538 hC (2 : Int32) dL_law_537 (by decide) rfl ?_
        refine g_iadd 539 hC dL_law_538 rfl ?_
        refine g_iald 540 hC hF dL_law_539 rfl (fun x_80 hF => ?_)
        refine g_cV (rest := [_]) wl_L_48 hd_X3_says (ci := 3) rfl 543 hC hF.1 (met_X3_says hF.2) rfl ⟨Nat.le_of_ble_eq_true rfl, Nat.le_of_ble_eq_true rfl⟩ hu rfl (Nat.le_of_ble_eq_true rfl) dL_law_540 rfl (g_ty_i (u + c_77) (v + s_78) (Nat.le_refl _) (Nat.le_refl _) (fun x_82 M_81 hF => ?_))
        refine g_icmp_eq 546 1950 hC dL_law_543 (by decide) rfl (fun c => ?_) (fun c => ?_)
        · have hF := hF.1 c
          exact w_L_law_b1950 hC _ _ _ _ _ hK18 _ _ hu _ hF
        · have hF := hF.2 c
          refine g_iconst 547 hC (0 : Int32) dL_law_546 (by decide) rfl ?_
          exact g_zreturn hC ⟨_, rfl, hF⟩ (Or.inl rfl) dL_law_547 hu.1 hu.2
      · have c : (x_2 &&& (63 : Int32)) = (7 : Int32) := Int32.toInt_inj.mp (c.trans (by decide))
        refine g_tsIn 548 hC (7 : Int32) c dL_law_33 (by decide) (by decide) rfl (by decide) ?_
        have hF := hF.2.2.2.2.2.2.2.2.1 c
        refine g_aload_n 549 hC dL_law_548 rfl 1 rfl rfl ?_
        refine g_aload_n 550 hC dL_law_549 rfl 0 rfl rfl ?_
        refine g_iload_n 551 hC dL_law_550 rfl 3 rfl rfl ?_
        refine g_iconst 552 hC (1 : Int32) dL_law_551 (by decide) rfl ?_
        refine g_iadd 553 hC dL_law_552 rfl ?_
        refine g_iald 554 hC hF dL_law_553 rfl (fun x_83 hF => ?_)
        refine g_aload_n 555 hC dL_law_554 rfl 0 rfl rfl ?_
        refine g_iload_n 556 hC dL_law_555 rfl 3 rfl rfl ?_
        refine g_iconst 557 hC (2 : Int32) dL_law_556 (by decide) rfl ?_
        refine g_iadd 558 hC dL_law_557 rfl ?_
        refine g_iald 559 hC hF dL_law_558 rfl (fun x_84 hF => ?_)
        refine g_cV (rest := []) wl_L_49 hd_X0_feed (ci := 0) rfl 562 hC hF.1 (met_X0_feed hF.2) rfl ⟨Nat.le_of_ble_eq_true rfl, Nat.le_of_ble_eq_true rfl⟩ hu rfl (Nat.le_of_ble_eq_true rfl) dL_law_559 rfl (g_ty_i u v (Nat.le_refl _) (Nat.le_refl _) (fun x_86 M_85 hF => ?_))
        refine g_aload_n 563 hC dL_law_562 rfl 2 rfl rfl ?_
        refine g_aload_n 564 hC dL_law_563 rfl 0 rfl rfl ?_
        refine g_iload_n 565 hC dL_law_564 rfl 3 rfl rfl ?_
        refine g_iconst 566 hC (1 : Int32) dL_law_565 (by decide) rfl ?_
        refine g_iadd 567 hC dL_law_566 rfl ?_
        refine g_iald 568 hC hF dL_law_567 rfl (fun x_87 hF => ?_)
        refine g_aload_n 569 hC dL_law_568 rfl 0 rfl rfl ?_
        refine g_iload_n 570 hC dL_law_569 rfl 3 rfl rfl ?_
        refine g_iconst 571 hC (2 : Int32) dL_law_570 (by decide) rfl ?_
        refine g_iadd 572 hC dL_law_571 rfl ?_
        refine g_iald 573 hC hF dL_law_572 rfl (fun x_88 hF => ?_)
        refine g_cV (rest := [_]) wl_L_52 hd_X3_feed (ci := 3) rfl 576 hC hF.1 (met_X3_feed hF.2) rfl ⟨Nat.le_of_ble_eq_true rfl, Nat.le_of_ble_eq_true rfl⟩ hu rfl (Nat.le_of_ble_eq_true rfl) dL_law_573 rfl (g_ty_i u v (Nat.le_refl _) (Nat.le_refl _) (fun x_90 M_89 hF => ?_))
        refine g_icmp_eq 579 1950 hC dL_law_576 (by decide) rfl (fun c => ?_) (fun c => ?_)
        · have hF := hF.1 c
          exact w_L_law_b1950 hC _ _ _ _ _ hK18 _ _ hu _ hF
        · have hF := hF.2 c
          refine g_iconst 580 hC (0 : Int32) dL_law_579 (by decide) rfl ?_
          exact g_zreturn hC ⟨_, rfl, hF⟩ (Or.inl rfl) dL_law_580 hu.1 hu.2
      · have c : (x_2 &&& (63 : Int32)) = (8 : Int32) := Int32.toInt_inj.mp (c.trans (by decide))
        refine g_tsIn 581 hC (8 : Int32) c dL_law_33 (by decide) (by decide) rfl (by decide) ?_
        have hF := hF.2.2.2.2.2.2.2.2.2.1 c
        refine g_aload_n 582 hC dL_law_581 rfl 1 rfl rfl ?_
        refine g_cV (rest := []) wl_L_53 hd_X0_wipe (ci := 0) rfl 585 hC hF.1 (met_X0_wipe hF.2) rfl ⟨Nat.le_of_ble_eq_true rfl, Nat.le_of_ble_eq_true rfl⟩ hu rfl (Nat.le_of_ble_eq_true rfl) dL_law_582 rfl (g_ty_i u v (Nat.le_refl _) (Nat.le_refl _) (fun x_92 M_91 hF => ?_))
        refine g_aload_n 586 hC dL_law_585 rfl 2 rfl rfl ?_
        refine g_cV (rest := [_]) wl_L_57 hd_X3_wipe (ci := 3) rfl 589 hC hF.1 (met_X3_wipe hF.2) rfl ⟨Nat.le_of_ble_eq_true rfl, Nat.le_of_ble_eq_true rfl⟩ hu rfl (Nat.le_of_ble_eq_true rfl) dL_law_586 rfl (g_ty_i u v (Nat.le_refl _) (Nat.le_refl _) (fun x_94 M_93 hF => ?_))
        refine g_icmp_eq 592 1950 hC dL_law_589 (by decide) rfl (fun c => ?_) (fun c => ?_)
        · have hF := hF.1 c
          exact w_L_law_b1950 hC _ _ _ _ _ hK18 _ _ hu _ hF
        · have hF := hF.2 c
          refine g_iconst 593 hC (0 : Int32) dL_law_592 (by decide) rfl ?_
          exact g_zreturn hC ⟨_, rfl, hF⟩ (Or.inl rfl) dL_law_593 hu.1 hu.2
      · have c : (x_2 &&& (63 : Int32)) = (9 : Int32) := Int32.toInt_inj.mp (c.trans (by decide))
        refine g_tsIn 594 hC (9 : Int32) c dL_law_33 (by decide) (by decide) rfl (by decide) ?_
        have hF := hF.2.2.2.2.2.2.2.2.2.2.1 c
        refine g_aload_n 595 hC dL_law_594 rfl 1 rfl rfl ?_
        obtain ⟨c_97, s_98, hu, hF⟩ := hF
        refine g_xVW (rest := []) wl_L_58 hd_X0_house (ci := 0) rfl 598 hC hF.1 (met_X0_house hF.2) rfl ⟨Nat.le_of_ble_eq_true rfl, Nat.le_of_ble_eq_true rfl⟩ hu rfl (Nat.le_of_ble_eq_true rfl) dL_law_595 rfl (g_ty_i (u + c_97) (v + s_98) (Nat.le_refl _) (Nat.le_refl _) (fun x_96 M_95 hF => ?_)) (fun _ _ _ h => h.elim)
        refine g_aload_n 599 hC dL_law_598 rfl 2 rfl rfl ?_
        refine g_cV (rest := [_]) wl_L_61 hd_X3_house (ci := 3) rfl 602 hC hF.1 (met_X3_house hF.2) rfl ⟨Nat.le_of_ble_eq_true rfl, Nat.le_of_ble_eq_true rfl⟩ hu rfl (Nat.le_of_ble_eq_true rfl) dL_law_599 rfl (g_ty_i (u + c_97) (v + s_98) (Nat.le_refl _) (Nat.le_refl _) (fun x_100 M_99 hF => ?_))
        refine g_icmp_eq 605 1950 hC dL_law_602 (by decide) rfl (fun c => ?_) (fun c => ?_)
        · have hF := hF.1 c
          exact w_L_law_b1950 hC _ _ _ _ _ hK18 _ _ hu _ hF
        · have hF := hF.2 c
          refine g_iconst 606 hC (0 : Int32) dL_law_605 (by decide) rfl ?_
          exact g_zreturn hC ⟨_, rfl, hF⟩ (Or.inl rfl) dL_law_606 hu.1 hu.2
      · have c : (x_2 &&& (63 : Int32)) = (10 : Int32) := Int32.toInt_inj.mp (c.trans (by decide))
        refine g_tsIn 607 hC (10 : Int32) c dL_law_33 (by decide) (by decide) rfl (by decide) ?_
        have hF := hF.2.2.2.2.2.2.2.2.2.2.2.1 c
        refine g_aload_n 608 hC dL_law_607 rfl 1 rfl rfl ?_
        refine g_aload_n 609 hC dL_law_608 rfl 0 rfl rfl ?_
        refine g_iload_n 610 hC dL_law_609 rfl 3 rfl rfl ?_
        refine g_iconst 611 hC (1 : Int32) dL_law_610 (by decide) rfl ?_
        refine g_iadd 612 hC dL_law_611 rfl ?_
        refine g_iald 613 hC hF dL_law_612 rfl (fun x_101 hF => ?_)
        refine g_aload_n 614 hC dL_law_613 rfl 0 rfl rfl ?_
        refine g_iload_n 615 hC dL_law_614 rfl 3 rfl rfl ?_
        refine g_iconst 616 hC (2 : Int32) dL_law_615 (by decide) rfl ?_
        refine g_iadd 617 hC dL_law_616 rfl ?_
        refine g_iald 618 hC hF dL_law_617 rfl (fun x_102 hF => ?_)
        refine g_cV (rest := []) wl_L_62 hd_X0_houseOf (ci := 0) rfl 621 hC hF.1 (met_X0_houseOf hF.2) rfl ⟨Nat.le_of_ble_eq_true rfl, Nat.le_of_ble_eq_true rfl⟩ hu rfl (Nat.le_of_ble_eq_true rfl) dL_law_618 rfl (g_ty_i u v (Nat.le_refl _) (Nat.le_refl _) (fun x_104 M_103 hF => ?_))
        refine g_aload_n 622 hC dL_law_621 rfl 2 rfl rfl ?_
        refine g_aload_n 623 hC dL_law_622 rfl 0 rfl rfl ?_
        refine g_iload_n 624 hC dL_law_623 rfl 3 rfl rfl ?_
        refine g_iconst 625 hC (1 : Int32) dL_law_624 (by decide) rfl ?_
        refine g_iadd 626 hC dL_law_625 rfl ?_
        refine g_iald 627 hC hF dL_law_626 rfl (fun x_105 hF => ?_)
        refine g_aload_n 628 hC dL_law_627 rfl 0 rfl rfl ?_
        refine g_iload_n 629 hC dL_law_628 rfl 3 rfl rfl ?_
        refine g_iconst 630 hC (2 : Int32) dL_law_629 (by decide) rfl ?_
        refine g_iadd 631 hC dL_law_630 rfl ?_
        refine g_iald 632 hC hF dL_law_631 rfl (fun x_106 hF => ?_)
        refine g_cV (rest := [_]) wl_L_65 hd_X3_houseOf (ci := 3) rfl 635 hC hF.1 (met_X3_houseOf hF.2) rfl ⟨Nat.le_of_ble_eq_true rfl, Nat.le_of_ble_eq_true rfl⟩ hu rfl (Nat.le_of_ble_eq_true rfl) dL_law_632 rfl (g_ty_i u v (Nat.le_refl _) (Nat.le_refl _) (fun x_108 M_107 hF => ?_))
        refine g_icmp_eq 638 1950 hC dL_law_635 (by decide) rfl (fun c => ?_) (fun c => ?_)
        · have hF := hF.1 c
          exact w_L_law_b1950 hC _ _ _ _ _ hK18 _ _ hu _ hF
        · have hF := hF.2 c
          refine g_iconst 639 hC (0 : Int32) dL_law_638 (by decide) rfl ?_
          exact g_zreturn hC ⟨_, rfl, hF⟩ (Or.inl rfl) dL_law_639 hu.1 hu.2
      · have c : (x_2 &&& (63 : Int32)) = (11 : Int32) := Int32.toInt_inj.mp (c.trans (by decide))
        refine g_tsIn 640 hC (11 : Int32) c dL_law_33 (by decide) (by decide) rfl (by decide) ?_
        have hF := hF.2.2.2.2.2.2.2.2.2.2.2.2.1 c
        refine g_aload_n 641 hC dL_law_640 rfl 1 rfl rfl ?_
        refine g_aload_n 642 hC dL_law_641 rfl 0 rfl rfl ?_
        refine g_iload_n 643 hC dL_law_642 rfl 3 rfl rfl ?_
        refine g_iconst 644 hC (1 : Int32) dL_law_643 (by decide) rfl ?_
        refine g_iadd 645 hC dL_law_644 rfl ?_
        refine g_iald 646 hC hF dL_law_645 rfl (fun x_109 hF => ?_)
        refine g_aload_n 647 hC dL_law_646 rfl 0 rfl rfl ?_
        refine g_iload_n 648 hC dL_law_647 rfl 3 rfl rfl ?_
        refine g_iconst 649 hC (2 : Int32) dL_law_648 (by decide) rfl ?_
        refine g_iadd 650 hC dL_law_649 rfl ?_
        refine g_iald 651 hC hF dL_law_650 rfl (fun x_110 hF => ?_)
        refine g_aload_n 652 hC dL_law_651 rfl 0 rfl rfl ?_
        refine g_iload_n 653 hC dL_law_652 rfl 3 rfl rfl ?_
        refine g_iconst 654 hC (3 : Int32) dL_law_653 (by decide) rfl ?_
        refine g_iadd 655 hC dL_law_654 rfl ?_
        refine g_iald 656 hC hF dL_law_655 rfl (fun x_111 hF => ?_)
        refine g_cV (rest := []) wl_L_66 hd_X0_sortOf_2 (ci := 0) rfl 659 hC hF.1 (met_X0_sortOf_2 hF.2) rfl ⟨Nat.le_of_ble_eq_true rfl, Nat.le_of_ble_eq_true rfl⟩ hu rfl (Nat.le_of_ble_eq_true rfl) dL_law_656 rfl (g_ty_i u v (Nat.le_refl _) (Nat.le_refl _) (fun x_113 M_112 hF => ?_))
        refine g_aload_n 660 hC dL_law_659 rfl 2 rfl rfl ?_
        refine g_aload_n 661 hC dL_law_660 rfl 0 rfl rfl ?_
        refine g_iload_n 662 hC dL_law_661 rfl 3 rfl rfl ?_
        refine g_iconst 663 hC (1 : Int32) dL_law_662 (by decide) rfl ?_
        refine g_iadd 664 hC dL_law_663 rfl ?_
        refine g_iald 665 hC hF dL_law_664 rfl (fun x_114 hF => ?_)
        refine g_aload_n 666 hC dL_law_665 rfl 0 rfl rfl ?_
        refine g_iload_n 667 hC dL_law_666 rfl 3 rfl rfl ?_
        refine g_iconst 668 hC (2 : Int32) dL_law_667 (by decide) rfl ?_
        refine g_iadd 669 hC dL_law_668 rfl ?_
        refine g_iald 670 hC hF dL_law_669 rfl (fun x_115 hF => ?_)
        refine g_aload_n 671 hC dL_law_670 rfl 0 rfl rfl ?_
        refine g_iload_n 672 hC dL_law_671 rfl 3 rfl rfl ?_
        refine g_iconst 673 hC (3 : Int32) dL_law_672 (by decide) rfl ?_
        refine g_iadd 674 hC dL_law_673 rfl ?_
        refine g_iald 675 hC hF dL_law_674 rfl (fun x_116 hF => ?_)
        refine g_cV (rest := [_]) wl_L_69 hd_X3_sortOf (ci := 3) rfl 678 hC hF.1 (met_X3_sortOf hF.2) rfl ⟨Nat.le_of_ble_eq_true rfl, Nat.le_of_ble_eq_true rfl⟩ hu rfl (Nat.le_of_ble_eq_true rfl) dL_law_675 rfl (g_ty_i u v (Nat.le_refl _) (Nat.le_refl _) (fun x_118 M_117 hF => ?_))
        refine g_icmp_eq 681 1950 hC dL_law_678 (by decide) rfl (fun c => ?_) (fun c => ?_)
        · have hF := hF.1 c
          exact w_L_law_b1950 hC _ _ _ _ _ hK18 _ _ hu _ hF
        · have hF := hF.2 c
          refine g_iconst 682 hC (0 : Int32) dL_law_681 (by decide) rfl ?_
          exact g_zreturn hC ⟨_, rfl, hF⟩ (Or.inl rfl) dL_law_682 hu.1 hu.2
      · have c : (x_2 &&& (63 : Int32)) = (12 : Int32) := Int32.toInt_inj.mp (c.trans (by decide))
        refine g_tsIn 683 hC (12 : Int32) c dL_law_33 (by decide) (by decide) rfl (by decide) ?_
        have hF := hF.2.2.2.2.2.2.2.2.2.2.2.2.2.1 c
        refine g_aload_n 684 hC dL_law_683 rfl 1 rfl rfl ?_
        refine g_aload_n 685 hC dL_law_684 rfl 0 rfl rfl ?_
        refine g_iload_n 686 hC dL_law_685 rfl 3 rfl rfl ?_
        refine g_iconst 687 hC (1 : Int32) dL_law_686 (by decide) rfl ?_
        refine g_iadd 688 hC dL_law_687 rfl ?_
        refine g_iald 689 hC hF dL_law_688 rfl (fun x_119 hF => ?_)
        refine g_aload_n 690 hC dL_law_689 rfl 0 rfl rfl ?_
        refine g_iload_n 691 hC dL_law_690 rfl 3 rfl rfl ?_
        refine g_iconst 692 hC (2 : Int32) dL_law_691 (by decide) rfl ?_
        refine g_iadd 693 hC dL_law_692 rfl ?_
        refine g_iald 694 hC hF dL_law_693 rfl (fun x_120 hF => ?_)
        refine g_aload_n 695 hC dL_law_694 rfl 0 rfl rfl ?_
        refine g_iload_n 696 hC dL_law_695 rfl 3 rfl rfl ?_
        refine g_iconst 697 hC (3 : Int32) dL_law_696 (by decide) rfl ?_
        refine g_iadd 698 hC dL_law_697 rfl ?_
        refine g_iald 699 hC hF dL_law_698 rfl (fun x_121 hF => ?_)
        refine g_cV (rest := []) wl_L_70 hd_X0_alter (ci := 0) rfl 702 hC hF.1 (met_X0_alter hF.2) rfl ⟨Nat.le_of_ble_eq_true rfl, Nat.le_of_ble_eq_true rfl⟩ hu rfl (Nat.le_of_ble_eq_true rfl) dL_law_699 rfl (g_ty_i u v (Nat.le_refl _) (Nat.le_refl _) (fun x_123 M_122 hF => ?_))
        refine g_aload_n 703 hC dL_law_702 rfl 2 rfl rfl ?_
        refine g_aload_n 704 hC dL_law_703 rfl 0 rfl rfl ?_
        refine g_iload_n 705 hC dL_law_704 rfl 3 rfl rfl ?_
        refine g_iconst 706 hC (1 : Int32) dL_law_705 (by decide) rfl ?_
        refine g_iadd 707 hC dL_law_706 rfl ?_
        refine g_iald 708 hC hF dL_law_707 rfl (fun x_124 hF => ?_)
        refine g_aload_n 709 hC dL_law_708 rfl 0 rfl rfl ?_
        refine g_iload_n 710 hC dL_law_709 rfl 3 rfl rfl ?_
        refine g_iconst 711 hC (2 : Int32) dL_law_710 (by decide) rfl ?_
        refine g_iadd 712 hC dL_law_711 rfl ?_
        refine g_iald 713 hC hF dL_law_712 rfl (fun x_125 hF => ?_)
        refine g_aload_n 714 hC dL_law_713 rfl 0 rfl rfl ?_
        refine g_iload_n 715 hC dL_law_714 rfl 3 rfl rfl ?_
        refine g_iconst 716 hC (3 : Int32) dL_law_715 (by decide) rfl ?_
        refine g_iadd 717 hC dL_law_716 rfl ?_
        refine g_iald 718 hC hF dL_law_717 rfl (fun x_126 hF => ?_)
        refine g_cV (rest := [_]) wl_L_73 hd_X3_alter (ci := 3) rfl 721 hC hF.1 (met_X3_alter hF.2) rfl ⟨Nat.le_of_ble_eq_true rfl, Nat.le_of_ble_eq_true rfl⟩ hu rfl (Nat.le_of_ble_eq_true rfl) dL_law_718 rfl (g_ty_i u v (Nat.le_refl _) (Nat.le_refl _) (fun x_128 M_127 hF => ?_))
        refine g_icmp_eq 724 1950 hC dL_law_721 (by decide) rfl (fun c => ?_) (fun c => ?_)
        · have hF := hF.1 c
          exact w_L_law_b1950 hC _ _ _ _ _ hK18 _ _ hu _ hF
        · have hF := hF.2 c
          refine g_iconst 725 hC (0 : Int32) dL_law_724 (by decide) rfl ?_
          exact g_zreturn hC ⟨_, rfl, hF⟩ (Or.inl rfl) dL_law_725 hu.1 hu.2
      · have c : (x_2 &&& (63 : Int32)) = (13 : Int32) := Int32.toInt_inj.mp (c.trans (by decide))
        refine g_tsIn 726 hC (13 : Int32) c dL_law_33 (by decide) (by decide) rfl (by decide) ?_
        have hF := hF.2.2.2.2.2.2.2.2.2.2.2.2.2.2.1 c
        refine g_aload_n 727 hC dL_law_726 rfl 1 rfl rfl ?_
        refine g_aload_n 728 hC dL_law_727 rfl 0 rfl rfl ?_
        refine g_iload_n 729 hC dL_law_728 rfl 3 rfl rfl ?_
        refine g_iconst 730 hC (1 : Int32) dL_law_729 (by decide) rfl ?_
        refine g_iadd 731 hC dL_law_730 rfl ?_
        refine g_iald 732 hC hF dL_law_731 rfl (fun x_129 hF => ?_)
        refine g_aload_n 733 hC dL_law_732 rfl 0 rfl rfl ?_
        refine g_iload_n 734 hC dL_law_733 rfl 3 rfl rfl ?_
        refine g_iconst 735 hC (2 : Int32) dL_law_734 (by decide) rfl ?_
        refine g_iadd 736 hC dL_law_735 rfl ?_
        refine g_iald 737 hC hF dL_law_736 rfl (fun x_130 hF => ?_)
        refine g_aload_n 738 hC dL_law_737 rfl 0 rfl rfl ?_
        refine g_iload_n 739 hC dL_law_738 rfl 3 rfl rfl ?_
        refine g_iconst 740 hC (3 : Int32) dL_law_739 (by decide) rfl ?_
        refine g_iadd 741 hC dL_law_740 rfl ?_
        refine g_iald 742 hC hF dL_law_741 rfl (fun x_131 hF => ?_)
        refine g_aload_n 743 hC dL_law_742 rfl 0 rfl rfl ?_
        refine g_iload_n 744 hC dL_law_743 rfl 3 rfl rfl ?_
        refine g_iconst 745 hC (4 : Int32) dL_law_744 (by decide) rfl ?_
        refine g_iadd 746 hC dL_law_745 rfl ?_
        refine g_iald 747 hC hF dL_law_746 rfl (fun x_132 hF => ?_)
        refine g_cV (rest := []) wl_L_74 hd_X0_change (ci := 0) rfl 750 hC hF.1 (met_X0_change hF.2) rfl ⟨Nat.le_of_ble_eq_true rfl, Nat.le_of_ble_eq_true rfl⟩ hu rfl (Nat.le_of_ble_eq_true rfl) dL_law_747 rfl (g_ty_i u v (Nat.le_refl _) (Nat.le_refl _) (fun x_134 M_133 hF => ?_))
        refine g_aload_n 751 hC dL_law_750 rfl 2 rfl rfl ?_
        refine g_aload_n 752 hC dL_law_751 rfl 0 rfl rfl ?_
        refine g_iload_n 753 hC dL_law_752 rfl 3 rfl rfl ?_
        refine g_iconst 754 hC (1 : Int32) dL_law_753 (by decide) rfl ?_
        refine g_iadd 755 hC dL_law_754 rfl ?_
        refine g_iald 756 hC hF dL_law_755 rfl (fun x_135 hF => ?_)
        refine g_aload_n 757 hC dL_law_756 rfl 0 rfl rfl ?_
        refine g_iload_n 758 hC dL_law_757 rfl 3 rfl rfl ?_
        refine g_iconst 759 hC (2 : Int32) dL_law_758 (by decide) rfl ?_
        refine g_iadd 760 hC dL_law_759 rfl ?_
        refine g_iald 761 hC hF dL_law_760 rfl (fun x_136 hF => ?_)
        refine g_aload_n 762 hC dL_law_761 rfl 0 rfl rfl ?_
        refine g_iload_n 763 hC dL_law_762 rfl 3 rfl rfl ?_
        refine g_iconst 764 hC (3 : Int32) dL_law_763 (by decide) rfl ?_
        refine g_iadd 765 hC dL_law_764 rfl ?_
        refine g_iald 766 hC hF dL_law_765 rfl (fun x_137 hF => ?_)
        refine g_aload_n 767 hC dL_law_766 rfl 0 rfl rfl ?_
        refine g_iload_n 768 hC dL_law_767 rfl 3 rfl rfl ?_
        refine g_iconst 769 hC (4 : Int32) dL_law_768 (by decide) rfl ?_
        refine g_iadd 770 hC dL_law_769 rfl ?_
        refine g_iald 771 hC hF dL_law_770 rfl (fun x_138 hF => ?_)
        refine g_cV (rest := [_]) wl_L_78 hd_X3_change (ci := 3) rfl 774 hC hF.1 (met_X3_change hF.2) rfl ⟨Nat.le_of_ble_eq_true rfl, Nat.le_of_ble_eq_true rfl⟩ hu rfl (Nat.le_of_ble_eq_true rfl) dL_law_771 rfl (g_ty_i u v (Nat.le_refl _) (Nat.le_refl _) (fun x_140 M_139 hF => ?_))
        refine g_icmp_eq 777 1950 hC dL_law_774 (by decide) rfl (fun c => ?_) (fun c => ?_)
        · have hF := hF.1 c
          exact w_L_law_b1950 hC _ _ _ _ _ hK18 _ _ hu _ hF
        · have hF := hF.2 c
          refine g_iconst 778 hC (0 : Int32) dL_law_777 (by decide) rfl ?_
          exact g_zreturn hC ⟨_, rfl, hF⟩ (Or.inl rfl) dL_law_778 hu.1 hu.2
      · have c : (x_2 &&& (63 : Int32)) = (14 : Int32) := Int32.toInt_inj.mp (c.trans (by decide))
        refine g_tsIn 779 hC (14 : Int32) c dL_law_33 (by decide) (by decide) rfl (by decide) ?_
        have hF := hF.2.2.2.2.2.2.2.2.2.2.2.2.2.2.2.1 c
        refine g_aload_n 780 hC dL_law_779 rfl 1 rfl rfl ?_
        refine g_aload_n 781 hC dL_law_780 rfl 0 rfl rfl ?_
        refine g_iload_n 782 hC dL_law_781 rfl 3 rfl rfl ?_
        refine g_iconst 783 hC (1 : Int32) dL_law_782 (by decide) rfl ?_
        refine g_iadd 784 hC dL_law_783 rfl ?_
        refine g_iald 785 hC hF dL_law_784 rfl (fun x_141 hF => ?_)
        refine g_aload_n 786 hC dL_law_785 rfl 0 rfl rfl ?_
        refine g_iload_n 787 hC dL_law_786 rfl 3 rfl rfl ?_
        refine g_iconst 788 hC (2 : Int32) dL_law_787 (by decide) rfl ?_
        refine g_iadd 789 hC dL_law_788 rfl ?_
        refine g_iald 790 hC hF dL_law_789 rfl (fun x_142 hF => ?_)
        refine g_cV (rest := []) wl_L_79 hd_X0_of (ci := 0) rfl 793 hC hF.1 (met_X0_of hF.2) rfl ⟨Nat.le_of_ble_eq_true rfl, Nat.le_of_ble_eq_true rfl⟩ hu rfl (Nat.le_of_ble_eq_true rfl) dL_law_790 rfl (g_ty_i u v (Nat.le_refl _) (Nat.le_refl _) (fun x_144 M_143 hF => ?_))
        refine g_aload_n 794 hC dL_law_793 rfl 2 rfl rfl ?_
        refine g_aload_n 795 hC dL_law_794 rfl 0 rfl rfl ?_
        refine g_iload_n 796 hC dL_law_795 rfl 3 rfl rfl ?_
        refine g_iconst 797 hC (1 : Int32) dL_law_796 (by decide) rfl ?_
        refine g_iadd 798 hC dL_law_797 rfl ?_
        refine g_iald 799 hC hF dL_law_798 rfl (fun x_145 hF => ?_)
        refine g_aload_n 800 hC dL_law_799 rfl 0 rfl rfl ?_
        refine g_iload_n 801 hC dL_law_800 rfl 3 rfl rfl ?_
        refine g_iconst 802 hC (2 : Int32) dL_law_801 (by decide) rfl ?_
        refine g_iadd 803 hC dL_law_802 rfl ?_
        refine g_iald 804 hC hF dL_law_803 rfl (fun x_146 hF => ?_)
        refine g_cV (rest := [_]) wl_L_82 hd_X3_of (ci := 3) rfl 807 hC hF.1 (met_X3_of hF.2) rfl ⟨Nat.le_of_ble_eq_true rfl, Nat.le_of_ble_eq_true rfl⟩ hu rfl (Nat.le_of_ble_eq_true rfl) dL_law_804 rfl (g_ty_i u v (Nat.le_refl _) (Nat.le_refl _) (fun x_148 M_147 hF => ?_))
        refine g_icmp_eq 810 1950 hC dL_law_807 (by decide) rfl (fun c => ?_) (fun c => ?_)
        · have hF := hF.1 c
          exact w_L_law_b1950 hC _ _ _ _ _ hK18 _ _ hu _ hF
        · have hF := hF.2 c
          refine g_iconst 811 hC (0 : Int32) dL_law_810 (by decide) rfl ?_
          exact g_zreturn hC ⟨_, rfl, hF⟩ (Or.inl rfl) dL_law_811 hu.1 hu.2
      · have c : (x_2 &&& (63 : Int32)) = (15 : Int32) := Int32.toInt_inj.mp (c.trans (by decide))
        refine g_tsIn 812 hC (15 : Int32) c dL_law_33 (by decide) (by decide) rfl (by decide) ?_
        have hF := hF.2.2.2.2.2.2.2.2.2.2.2.2.2.2.2.2.1 c
        refine g_aload_n 813 hC dL_law_812 rfl 1 rfl rfl ?_
        refine g_aload_n 814 hC dL_law_813 rfl 0 rfl rfl ?_
        refine g_iload_n 815 hC dL_law_814 rfl 3 rfl rfl ?_
        refine g_iconst 816 hC (1 : Int32) dL_law_815 (by decide) rfl ?_
        refine g_iadd 817 hC dL_law_816 rfl ?_
        refine g_iald 818 hC hF dL_law_817 rfl (fun x_149 hF => ?_)
        refine g_aload_n 819 hC dL_law_818 rfl 0 rfl rfl ?_
        refine g_iload_n 820 hC dL_law_819 rfl 3 rfl rfl ?_
        refine g_iconst 821 hC (2 : Int32) dL_law_820 (by decide) rfl ?_
        refine g_iadd 822 hC dL_law_821 rfl ?_
        refine g_iald 823 hC hF dL_law_822 rfl (fun x_150 hF => ?_)
        refine g_cV (rest := []) wl_L_83 hd_X0_space (ci := 0) rfl 826 hC hF.1 (met_X0_space hF.2) rfl ⟨Nat.le_of_ble_eq_true rfl, Nat.le_of_ble_eq_true rfl⟩ hu rfl (Nat.le_of_ble_eq_true rfl) dL_law_823 rfl (g_ty_i u v (Nat.le_refl _) (Nat.le_refl _) (fun x_152 M_151 hF => ?_))
        refine g_aload_n 827 hC dL_law_826 rfl 2 rfl rfl ?_
        refine g_aload_n 828 hC dL_law_827 rfl 0 rfl rfl ?_
        refine g_iload_n 829 hC dL_law_828 rfl 3 rfl rfl ?_
        refine g_iconst 830 hC (1 : Int32) dL_law_829 (by decide) rfl ?_
        refine g_iadd 831 hC dL_law_830 rfl ?_
        refine g_iald 832 hC hF dL_law_831 rfl (fun x_153 hF => ?_)
        refine g_aload_n 833 hC dL_law_832 rfl 0 rfl rfl ?_
        refine g_iload_n 834 hC dL_law_833 rfl 3 rfl rfl ?_
        refine g_iconst 835 hC (2 : Int32) dL_law_834 (by decide) rfl ?_
        refine g_iadd 836 hC dL_law_835 rfl ?_
        refine g_iald 837 hC hF dL_law_836 rfl (fun x_154 hF => ?_)
        refine g_cV (rest := [_]) wl_L_86 hd_X3_space (ci := 3) rfl 840 hC hF.1 (met_X3_space hF.2) rfl ⟨Nat.le_of_ble_eq_true rfl, Nat.le_of_ble_eq_true rfl⟩ hu rfl (Nat.le_of_ble_eq_true rfl) dL_law_837 rfl (g_ty_i u v (Nat.le_refl _) (Nat.le_refl _) (fun x_156 M_155 hF => ?_))
        refine g_icmp_eq 843 1950 hC dL_law_840 (by decide) rfl (fun c => ?_) (fun c => ?_)
        · have hF := hF.1 c
          exact w_L_law_b1950 hC _ _ _ _ _ hK18 _ _ hu _ hF
        · have hF := hF.2 c
          refine g_iconst 844 hC (0 : Int32) dL_law_843 (by decide) rfl ?_
          exact g_zreturn hC ⟨_, rfl, hF⟩ (Or.inl rfl) dL_law_844 hu.1 hu.2
      · have c : (x_2 &&& (63 : Int32)) = (16 : Int32) := Int32.toInt_inj.mp (c.trans (by decide))
        refine g_tsIn 845 hC (16 : Int32) c dL_law_33 (by decide) (by decide) rfl (by decide) ?_
        have hF := hF.2.2.2.2.2.2.2.2.2.2.2.2.2.2.2.2.2.1 c
        refine g_aload_n 846 hC dL_law_845 rfl 1 rfl rfl ?_
        refine g_aload_n 847 hC dL_law_846 rfl 0 rfl rfl ?_
        refine g_iload_n 848 hC dL_law_847 rfl 3 rfl rfl ?_
        refine g_iconst 849 hC (1 : Int32) dL_law_848 (by decide) rfl ?_
        refine g_iadd 850 hC dL_law_849 rfl ?_
        refine g_iald 851 hC hF dL_law_850 rfl (fun x_157 hF => ?_)
        refine g_aload_n 852 hC dL_law_851 rfl 0 rfl rfl ?_
        refine g_iload_n 853 hC dL_law_852 rfl 3 rfl rfl ?_
        refine g_iconst 854 hC (2 : Int32) dL_law_853 (by decide) rfl ?_
        refine g_iadd 855 hC dL_law_854 rfl ?_
        refine g_iald 856 hC hF dL_law_855 rfl (fun x_158 hF => ?_)
        refine g_cV (rest := []) wl_L_87 hd_X0_scale (ci := 0) rfl 859 hC hF.1 (met_X0_scale hF.2) rfl ⟨Nat.le_of_ble_eq_true rfl, Nat.le_of_ble_eq_true rfl⟩ hu rfl (Nat.le_of_ble_eq_true rfl) dL_law_856 rfl (g_ty_j u v (Nat.le_refl _) (Nat.le_refl _) (fun j_160 M_159 hF => ?_))
        refine g_aload_n 860 hC dL_law_859 rfl 2 rfl rfl ?_
        refine g_aload_n 861 hC dL_law_860 rfl 0 rfl rfl ?_
        refine g_iload_n 862 hC dL_law_861 rfl 3 rfl rfl ?_
        refine g_iconst 863 hC (1 : Int32) dL_law_862 (by decide) rfl ?_
        refine g_iadd 864 hC dL_law_863 rfl ?_
        refine g_iald 865 hC hF dL_law_864 rfl (fun x_161 hF => ?_)
        refine g_aload_n 866 hC dL_law_865 rfl 0 rfl rfl ?_
        refine g_iload_n 867 hC dL_law_866 rfl 3 rfl rfl ?_
        refine g_iconst 868 hC (2 : Int32) dL_law_867 (by decide) rfl ?_
        refine g_iadd 869 hC dL_law_868 rfl ?_
        refine g_iald 870 hC hF dL_law_869 rfl (fun x_162 hF => ?_)
        refine g_cV (rest := [_]) wl_L_90 hd_X3_scale (ci := 3) rfl 873 hC hF.1 (met_X3_scale hF.2) rfl ⟨Nat.le_of_ble_eq_true rfl, Nat.le_of_ble_eq_true rfl⟩ hu rfl (Nat.le_of_ble_eq_true rfl) dL_law_870 rfl (g_ty_j u v (Nat.le_refl _) (Nat.le_refl _) (fun j_164 M_163 hF => ?_))
        refine g_lcmp_eq 877 1950 hC dL_law_873 rfl dL_law_874 (by decide) rfl (fun c => ?_) (fun c => ?_)
        · have hF := hF.1 c
          exact w_L_law_b1950 hC _ _ _ _ _ hK18 _ _ hu _ hF
        · have hF := hF.2 c
          refine g_iconst 878 hC (0 : Int32) dL_law_877 (by decide) rfl ?_
          exact g_zreturn hC ⟨_, rfl, hF⟩ (Or.inl rfl) dL_law_878 hu.1 hu.2
      · have c : (x_2 &&& (63 : Int32)) = (17 : Int32) := Int32.toInt_inj.mp (c.trans (by decide))
        refine g_tsIn 879 hC (17 : Int32) c dL_law_33 (by decide) (by decide) rfl (by decide) ?_
        have hF := hF.2.2.2.2.2.2.2.2.2.2.2.2.2.2.2.2.2.2.1 c
        refine g_aload_n 880 hC dL_law_879 rfl 1 rfl rfl ?_
        refine g_aload_n 881 hC dL_law_880 rfl 0 rfl rfl ?_
        refine g_iload_n 882 hC dL_law_881 rfl 3 rfl rfl ?_
        refine g_iconst 883 hC (1 : Int32) dL_law_882 (by decide) rfl ?_
        refine g_iadd 884 hC dL_law_883 rfl ?_
        refine g_iald 885 hC hF dL_law_884 rfl (fun x_165 hF => ?_)
        refine g_aload_n 886 hC dL_law_885 rfl 0 rfl rfl ?_
        refine g_iload_n 887 hC dL_law_886 rfl 3 rfl rfl ?_
        refine g_iconst 888 hC (2 : Int32) dL_law_887 (by decide) rfl ?_
        refine g_iadd 889 hC dL_law_888 rfl ?_
        refine g_iald 890 hC hF dL_law_889 rfl (fun x_166 hF => ?_)
        refine g_aload_n 891 hC dL_law_890 rfl 0 rfl rfl ?_
        refine g_iload_n 892 hC dL_law_891 rfl 3 rfl rfl ?_
        refine g_iconst 893 hC (3 : Int32) dL_law_892 (by decide) rfl ?_
        refine g_iadd 894 hC dL_law_893 rfl ?_
        refine g_iald 895 hC hF dL_law_894 rfl (fun x_167 hF => ?_)
        obtain ⟨c_170, s_171, hu, hF⟩ := hF
        refine g_cV (rest := []) wl_L_91 hd_X0_cost (ci := 0) rfl 898 hC hF.1 (met_X0_cost hF.2) rfl ⟨Nat.le_of_ble_eq_true rfl, Nat.le_of_ble_eq_true rfl⟩ hu rfl (Nat.le_of_ble_eq_true rfl) dL_law_895 rfl (g_ty_j (u + c_170) (v + s_171) (Nat.le_refl _) (Nat.le_refl _) (fun j_169 M_168 hF => ?_))
        refine g_aload_n 899 hC dL_law_898 rfl 2 rfl rfl ?_
        refine g_aload_n 900 hC dL_law_899 rfl 0 rfl rfl ?_
        refine g_iload_n 901 hC dL_law_900 rfl 3 rfl rfl ?_
        refine g_iconst 902 hC (1 : Int32) dL_law_901 (by decide) rfl ?_
        refine g_iadd 903 hC dL_law_902 rfl ?_
        refine g_iald 904 hC hF dL_law_903 rfl (fun x_172 hF => ?_)
        refine g_aload_n 905 hC dL_law_904 rfl 0 rfl rfl ?_
        refine g_iload_n 906 hC dL_law_905 rfl 3 rfl rfl ?_
        refine g_iconst 907 hC (2 : Int32) dL_law_906 (by decide) rfl ?_
        refine g_iadd 908 hC dL_law_907 rfl ?_
        refine g_iald 909 hC hF dL_law_908 rfl (fun x_173 hF => ?_)
        refine g_aload_n 910 hC dL_law_909 rfl 0 rfl rfl ?_
        refine g_iload_n 911 hC dL_law_910 rfl 3 rfl rfl ?_
        refine g_iconst 912 hC (3 : Int32) dL_law_911 (by decide) rfl ?_
        refine g_iadd 913 hC dL_law_912 rfl ?_
        refine g_iald 914 hC hF dL_law_913 rfl (fun x_174 hF => ?_)
        refine g_cV (rest := [_]) wl_L_95 hd_X3_cost (ci := 3) rfl 917 hC hF.1 (met_X3_cost hF.2) rfl ⟨Nat.le_of_ble_eq_true rfl, Nat.le_of_ble_eq_true rfl⟩ hu rfl (Nat.le_of_ble_eq_true rfl) dL_law_914 rfl (g_ty_j (u + c_170) (v + s_171) (Nat.le_refl _) (Nat.le_refl _) (fun j_176 M_175 hF => ?_))
        refine g_lcmp_eq 921 1950 hC dL_law_917 rfl dL_law_918 (by decide) rfl (fun c => ?_) (fun c => ?_)
        · have hF := hF.1 c
          exact w_L_law_b1950 hC _ _ _ _ _ hK18 _ _ hu _ hF
        · have hF := hF.2 c
          refine g_iconst 922 hC (0 : Int32) dL_law_921 (by decide) rfl ?_
          exact g_zreturn hC ⟨_, rfl, hF⟩ (Or.inl rfl) dL_law_922 hu.1 hu.2
      · have c : (x_2 &&& (63 : Int32)) = (18 : Int32) := Int32.toInt_inj.mp (c.trans (by decide))
        refine g_tsIn 923 hC (18 : Int32) c dL_law_33 (by decide) (by decide) rfl (by decide) ?_
        have hF := hF.2.2.2.2.2.2.2.2.2.2.2.2.2.2.2.2.2.2.2.1 c
        refine g_aload_n 924 hC dL_law_923 rfl 1 rfl rfl ?_
        refine g_aload_n 925 hC dL_law_924 rfl 0 rfl rfl ?_
        refine g_iload_n 926 hC dL_law_925 rfl 3 rfl rfl ?_
        refine g_iconst 927 hC (1 : Int32) dL_law_926 (by decide) rfl ?_
        refine g_iadd 928 hC dL_law_927 rfl ?_
        refine g_iald 929 hC hF dL_law_928 rfl (fun x_177 hF => ?_)
        refine g_aload_n 930 hC dL_law_929 rfl 0 rfl rfl ?_
        refine g_iload_n 931 hC dL_law_930 rfl 3 rfl rfl ?_
        refine g_iconst 932 hC (2 : Int32) dL_law_931 (by decide) rfl ?_
        refine g_iadd 933 hC dL_law_932 rfl ?_
        refine g_iald 934 hC hF dL_law_933 rfl (fun x_178 hF => ?_)
        refine g_aload_n 935 hC dL_law_934 rfl 0 rfl rfl ?_
        refine g_iload_n 936 hC dL_law_935 rfl 3 rfl rfl ?_
        refine g_iconst 937 hC (3 : Int32) dL_law_936 (by decide) rfl ?_
        refine g_iadd 938 hC dL_law_937 rfl ?_
        refine g_iald 939 hC hF dL_law_938 rfl (fun x_179 hF => ?_)
        obtain ⟨c_182, s_183, hu, hF⟩ := hF
        refine g_cV (rest := []) wl_L_96 hd_X0_best (ci := 0) rfl 942 hC hF.1 (met_X0_best hF.2) rfl ⟨Nat.le_of_ble_eq_true rfl, Nat.le_of_ble_eq_true rfl⟩ hu rfl (Nat.le_of_ble_eq_true rfl) dL_law_939 rfl (g_ty_i (u + c_182) (v + s_183) (Nat.le_refl _) (Nat.le_refl _) (fun x_181 M_180 hF => ?_))
        refine g_aload_n 943 hC dL_law_942 rfl 2 rfl rfl ?_
        refine g_aload_n 944 hC dL_law_943 rfl 0 rfl rfl ?_
        refine g_iload_n 945 hC dL_law_944 rfl 3 rfl rfl ?_
        refine g_iconst 946 hC (1 : Int32) dL_law_945 (by decide) rfl ?_
        refine g_iadd 947 hC dL_law_946 rfl ?_
        refine g_iald 948 hC hF dL_law_947 rfl (fun x_184 hF => ?_)
        refine g_aload_n 949 hC dL_law_948 rfl 0 rfl rfl ?_
        refine g_iload_n 950 hC dL_law_949 rfl 3 rfl rfl ?_
        refine g_iconst 951 hC (2 : Int32) dL_law_950 (by decide) rfl ?_
        refine g_iadd 952 hC dL_law_951 rfl ?_
        refine g_iald 953 hC hF dL_law_952 rfl (fun x_185 hF => ?_)
        refine g_aload_n 954 hC dL_law_953 rfl 0 rfl rfl ?_
        refine g_iload_n 955 hC dL_law_954 rfl 3 rfl rfl ?_
        refine g_iconst 956 hC (3 : Int32) dL_law_955 (by decide) rfl ?_
        refine g_iadd 957 hC dL_law_956 rfl ?_
        refine g_iald 958 hC hF dL_law_957 rfl (fun x_186 hF => ?_)
        refine g_cV (rest := [_]) wl_L_99 hd_X3_best (ci := 3) rfl 961 hC hF.1 (met_X3_best hF.2) rfl ⟨Nat.le_of_ble_eq_true rfl, Nat.le_of_ble_eq_true rfl⟩ hu rfl (Nat.le_of_ble_eq_true rfl) dL_law_958 rfl (g_ty_i (u + c_182) (v + s_183) (Nat.le_refl _) (Nat.le_refl _) (fun x_188 M_187 hF => ?_))
        refine g_icmp_eq 964 1950 hC dL_law_961 (by decide) rfl (fun c => ?_) (fun c => ?_)
        · have hF := hF.1 c
          exact w_L_law_b1950 hC _ _ _ _ _ hK18 _ _ hu _ hF
        · have hF := hF.2 c
          refine g_iconst 965 hC (0 : Int32) dL_law_964 (by decide) rfl ?_
          exact g_zreturn hC ⟨_, rfl, hF⟩ (Or.inl rfl) dL_law_965 hu.1 hu.2
      · have c : (x_2 &&& (63 : Int32)) = (19 : Int32) := Int32.toInt_inj.mp (c.trans (by decide))
        refine g_tsIn 966 hC (19 : Int32) c dL_law_33 (by decide) (by decide) rfl (by decide) ?_
        have hF := hF.2.2.2.2.2.2.2.2.2.2.2.2.2.2.2.2.2.2.2.2.1 c
        refine g_aload_n 967 hC dL_law_966 rfl 1 rfl rfl ?_
        refine g_aload_n 968 hC dL_law_967 rfl 0 rfl rfl ?_
        refine g_iload_n 969 hC dL_law_968 rfl 3 rfl rfl ?_
        refine g_iconst 970 hC (1 : Int32) dL_law_969 (by decide) rfl ?_
        refine g_iadd 971 hC dL_law_970 rfl ?_
        refine g_iald 972 hC hF dL_law_971 rfl (fun x_189 hF => ?_)
        refine g_aload_n 973 hC dL_law_972 rfl 0 rfl rfl ?_
        refine g_iload_n 974 hC dL_law_973 rfl 3 rfl rfl ?_
        refine g_iconst 975 hC (2 : Int32) dL_law_974 (by decide) rfl ?_
        refine g_iadd 976 hC dL_law_975 rfl ?_
        refine g_iald 977 hC hF dL_law_976 rfl (fun x_190 hF => ?_)
        refine g_cV (rest := []) wl_L_100 hd_X0_fill (ci := 0) rfl 980 hC hF.1 (met_X0_fill hF.2) rfl ⟨Nat.le_of_ble_eq_true rfl, Nat.le_of_ble_eq_true rfl⟩ hu rfl (Nat.le_of_ble_eq_true rfl) dL_law_977 rfl (g_ty_i u v (Nat.le_refl _) (Nat.le_refl _) (fun x_192 M_191 hF => ?_))
        refine g_aload_n 981 hC dL_law_980 rfl 2 rfl rfl ?_
        refine g_aload_n 982 hC dL_law_981 rfl 0 rfl rfl ?_
        refine g_iload_n 983 hC dL_law_982 rfl 3 rfl rfl ?_
        refine g_iconst 984 hC (1 : Int32) dL_law_983 (by decide) rfl ?_
        refine g_iadd 985 hC dL_law_984 rfl ?_
        refine g_iald 986 hC hF dL_law_985 rfl (fun x_193 hF => ?_)
        refine g_aload_n 987 hC dL_law_986 rfl 0 rfl rfl ?_
        refine g_iload_n 988 hC dL_law_987 rfl 3 rfl rfl ?_
        refine g_iconst 989 hC (2 : Int32) dL_law_988 (by decide) rfl ?_
        refine g_iadd 990 hC dL_law_989 rfl ?_
        refine g_iald 991 hC hF dL_law_990 rfl (fun x_194 hF => ?_)
        refine g_cV (rest := [_]) wl_L_103 hd_X3_fill (ci := 3) rfl 994 hC hF.1 (met_X3_fill hF.2) rfl ⟨Nat.le_of_ble_eq_true rfl, Nat.le_of_ble_eq_true rfl⟩ hu rfl (Nat.le_of_ble_eq_true rfl) dL_law_991 rfl (g_ty_i u v (Nat.le_refl _) (Nat.le_refl _) (fun x_196 M_195 hF => ?_))
        refine g_icmp_eq 997 1950 hC dL_law_994 (by decide) rfl (fun c => ?_) (fun c => ?_)
        · have hF := hF.1 c
          exact w_L_law_b1950 hC _ _ _ _ _ hK18 _ _ hu _ hF
        · have hF := hF.2 c
          refine g_iconst 998 hC (0 : Int32) dL_law_997 (by decide) rfl ?_
          exact g_zreturn hC ⟨_, rfl, hF⟩ (Or.inl rfl) dL_law_998 hu.1 hu.2
      · have c : (x_2 &&& (63 : Int32)) = (20 : Int32) := Int32.toInt_inj.mp (c.trans (by decide))
        refine g_tsIn 999 hC (20 : Int32) c dL_law_33 (by decide) (by decide) rfl (by decide) ?_
        have hF := hF.2.2.2.2.2.2.2.2.2.2.2.2.2.2.2.2.2.2.2.2.2.1 c
        refine g_aload_n 1000 hC dL_law_999 rfl 1 rfl rfl ?_
        refine g_aload_n 1001 hC dL_law_1000 rfl 0 rfl rfl ?_
        refine g_iload_n 1002 hC dL_law_1001 rfl 3 rfl rfl ?_
        refine g_iconst 1003 hC (1 : Int32) dL_law_1002 (by decide) rfl ?_
        refine g_iadd 1004 hC dL_law_1003 rfl ?_
        refine g_iald 1005 hC hF dL_law_1004 rfl (fun x_197 hF => ?_)
        refine g_aload_n 1006 hC dL_law_1005 rfl 0 rfl rfl ?_
        refine g_iload_n 1007 hC dL_law_1006 rfl 3 rfl rfl ?_
        refine g_iconst 1008 hC (2 : Int32) dL_law_1007 (by decide) rfl ?_
        refine g_iadd 1009 hC dL_law_1008 rfl ?_
        refine g_iald 1010 hC hF dL_law_1009 rfl (fun x_198 hF => ?_)
        refine g_aload_n 1011 hC dL_law_1010 rfl 0 rfl rfl ?_
        refine g_iload_n 1012 hC dL_law_1011 rfl 3 rfl rfl ?_
        refine g_iconst 1013 hC (3 : Int32) dL_law_1012 (by decide) rfl ?_
        refine g_iadd 1014 hC dL_law_1013 rfl ?_
        refine g_iald 1015 hC hF dL_law_1014 rfl (fun x_199 hF => ?_)
        refine g_aload_n 1016 hC dL_law_1015 rfl 0 rfl rfl ?_
        refine g_iload_n 1017 hC dL_law_1016 rfl 3 rfl rfl ?_
        refine g_iconst 1018 hC (4 : Int32) dL_law_1017 (by decide) rfl ?_
        refine g_iadd 1019 hC dL_law_1018 rfl ?_
        refine g_iald 1020 hC hF dL_law_1019 rfl (fun x_200 hF => ?_)
        obtain ⟨c_203, s_204, hu, hF⟩ := hF
        refine g_xVW (rest := []) wl_L_104 hd_X0_load (ci := 0) rfl 1023 hC hF.1 (met_X0_load hF.2) rfl ⟨Nat.le_of_ble_eq_true rfl, Nat.le_of_ble_eq_true rfl⟩ hu rfl (Nat.le_of_ble_eq_true rfl) dL_law_1020 rfl (g_ty_i (u + c_203) (v + s_204) (Nat.le_refl _) (Nat.le_refl _) (fun x_202 M_201 hF => ?_)) (fun _ _ _ h => h.elim)
        refine g_aload_n 1024 hC dL_law_1023 rfl 2 rfl rfl ?_
        refine g_aload_n 1025 hC dL_law_1024 rfl 0 rfl rfl ?_
        refine g_iload_n 1026 hC dL_law_1025 rfl 3 rfl rfl ?_
        refine g_iconst 1027 hC (1 : Int32) dL_law_1026 (by decide) rfl ?_
        refine g_iadd 1028 hC dL_law_1027 rfl ?_
        refine g_iald 1029 hC hF dL_law_1028 rfl (fun x_205 hF => ?_)
        refine g_aload_n 1030 hC dL_law_1029 rfl 0 rfl rfl ?_
        refine g_iload_n 1031 hC dL_law_1030 rfl 3 rfl rfl ?_
        refine g_iconst 1032 hC (2 : Int32) dL_law_1031 (by decide) rfl ?_
        refine g_iadd 1033 hC dL_law_1032 rfl ?_
        refine g_iald 1034 hC hF dL_law_1033 rfl (fun x_206 hF => ?_)
        refine g_aload_n 1035 hC dL_law_1034 rfl 0 rfl rfl ?_
        refine g_iload_n 1036 hC dL_law_1035 rfl 3 rfl rfl ?_
        refine g_iconst 1037 hC (3 : Int32) dL_law_1036 (by decide) rfl ?_
        refine g_iadd 1038 hC dL_law_1037 rfl ?_
        refine g_iald 1039 hC hF dL_law_1038 rfl (fun x_207 hF => ?_)
        refine g_aload_n 1040 hC dL_law_1039 rfl 0 rfl rfl ?_
        refine g_iload_n 1041 hC dL_law_1040 rfl 3 rfl rfl ?_
        refine g_iconst 1042 hC (4 : Int32) dL_law_1041 (by decide) rfl ?_
        refine g_iadd 1043 hC dL_law_1042 rfl ?_
        refine g_iald 1044 hC hF dL_law_1043 rfl (fun x_208 hF => ?_)
        refine g_cV (rest := [_]) wl_L_107 hd_X3_load (ci := 3) rfl 1047 hC hF.1 (met_X3_load hF.2) rfl ⟨Nat.le_of_ble_eq_true rfl, Nat.le_of_ble_eq_true rfl⟩ hu rfl (Nat.le_of_ble_eq_true rfl) dL_law_1044 rfl (g_ty_i (u + c_203) (v + s_204) (Nat.le_refl _) (Nat.le_refl _) (fun x_210 M_209 hF => ?_))
        refine g_icmp_eq 1050 1950 hC dL_law_1047 (by decide) rfl (fun c => ?_) (fun c => ?_)
        · have hF := hF.1 c
          exact w_L_law_b1950 hC _ _ _ _ _ hK18 _ _ hu _ hF
        · have hF := hF.2 c
          refine g_iconst 1051 hC (0 : Int32) dL_law_1050 (by decide) rfl ?_
          exact g_zreturn hC ⟨_, rfl, hF⟩ (Or.inl rfl) dL_law_1051 hu.1 hu.2
      · have c : (x_2 &&& (63 : Int32)) = (21 : Int32) := Int32.toInt_inj.mp (c.trans (by decide))
        refine g_tsIn 1052 hC (21 : Int32) c dL_law_33 (by decide) (by decide) rfl (by decide) ?_
        have hF := hF.2.2.2.2.2.2.2.2.2.2.2.2.2.2.2.2.2.2.2.2.2.2.1 c
        refine g_aload_n 1053 hC dL_law_1052 rfl 1 rfl rfl ?_
        refine g_aload_n 1054 hC dL_law_1053 rfl 0 rfl rfl ?_
        refine g_iload_n 1055 hC dL_law_1054 rfl 3 rfl rfl ?_
        refine g_iconst 1056 hC (1 : Int32) dL_law_1055 (by decide) rfl ?_
        refine g_iadd 1057 hC dL_law_1056 rfl ?_
        refine g_iald 1058 hC hF dL_law_1057 rfl (fun x_211 hF => ?_)
        refine g_aload_n 1059 hC dL_law_1058 rfl 0 rfl rfl ?_
        refine g_iload_n 1060 hC dL_law_1059 rfl 3 rfl rfl ?_
        refine g_iconst 1061 hC (2 : Int32) dL_law_1060 (by decide) rfl ?_
        refine g_iadd 1062 hC dL_law_1061 rfl ?_
        refine g_iald 1063 hC hF dL_law_1062 rfl (fun x_212 hF => ?_)
        refine g_aload_n 1064 hC dL_law_1063 rfl 0 rfl rfl ?_
        refine g_iload_n 1065 hC dL_law_1064 rfl 3 rfl rfl ?_
        refine g_iconst 1066 hC (3 : Int32) dL_law_1065 (by decide) rfl ?_
        refine g_iadd 1067 hC dL_law_1066 rfl ?_
        refine g_iald 1068 hC hF dL_law_1067 rfl (fun x_213 hF => ?_)
        refine g_aload_n 1069 hC dL_law_1068 rfl 0 rfl rfl ?_
        refine g_iload_n 1070 hC dL_law_1069 rfl 3 rfl rfl ?_
        refine g_iconst 1071 hC (4 : Int32) dL_law_1070 (by decide) rfl ?_
        refine g_iadd 1072 hC dL_law_1071 rfl ?_
        refine g_iald 1073 hC hF dL_law_1072 rfl (fun x_214 hF => ?_)
        obtain ⟨c_217, s_218, hu, hF⟩ := hF
        refine g_xVW (rest := []) wl_L_108 hd_X0_mean (ci := 0) rfl 1076 hC hF.1 (met_X0_mean hF.2) rfl ⟨Nat.le_of_ble_eq_true rfl, Nat.le_of_ble_eq_true rfl⟩ hu rfl (Nat.le_of_ble_eq_true rfl) dL_law_1073 rfl (g_ty_j (u + c_217) (v + s_218) (Nat.le_refl _) (Nat.le_refl _) (fun j_216 M_215 hF => ?_)) (fun _ _ _ h => h.elim)
        refine g_aload_n 1077 hC dL_law_1076 rfl 2 rfl rfl ?_
        refine g_aload_n 1078 hC dL_law_1077 rfl 0 rfl rfl ?_
        refine g_iload_n 1079 hC dL_law_1078 rfl 3 rfl rfl ?_
        refine g_iconst 1080 hC (1 : Int32) dL_law_1079 (by decide) rfl ?_
        refine g_iadd 1081 hC dL_law_1080 rfl ?_
        refine g_iald 1082 hC hF dL_law_1081 rfl (fun x_219 hF => ?_)
        refine g_aload_n 1083 hC dL_law_1082 rfl 0 rfl rfl ?_
        refine g_iload_n 1084 hC dL_law_1083 rfl 3 rfl rfl ?_
        refine g_iconst 1085 hC (2 : Int32) dL_law_1084 (by decide) rfl ?_
        refine g_iadd 1086 hC dL_law_1085 rfl ?_
        refine g_iald 1087 hC hF dL_law_1086 rfl (fun x_220 hF => ?_)
        refine g_aload_n 1088 hC dL_law_1087 rfl 0 rfl rfl ?_
        refine g_iload_n 1089 hC dL_law_1088 rfl 3 rfl rfl ?_
        refine g_iconst 1090 hC (3 : Int32) dL_law_1089 (by decide) rfl ?_
        refine g_iadd 1091 hC dL_law_1090 rfl ?_
        refine g_iald 1092 hC hF dL_law_1091 rfl (fun x_221 hF => ?_)
        refine g_aload_n 1093 hC dL_law_1092 rfl 0 rfl rfl ?_
        refine g_iload_n 1094 hC dL_law_1093 rfl 3 rfl rfl ?_
        refine g_iconst 1095 hC (4 : Int32) dL_law_1094 (by decide) rfl ?_
        refine g_iadd 1096 hC dL_law_1095 rfl ?_
        refine g_iald 1097 hC hF dL_law_1096 rfl (fun x_222 hF => ?_)
        refine g_cV (rest := [_]) wl_L_112 hd_X3_mean (ci := 3) rfl 1100 hC hF.1 (met_X3_mean hF.2) rfl ⟨Nat.le_of_ble_eq_true rfl, Nat.le_of_ble_eq_true rfl⟩ hu rfl (Nat.le_of_ble_eq_true rfl) dL_law_1097 rfl (g_ty_j (u + c_217) (v + s_218) (Nat.le_refl _) (Nat.le_refl _) (fun j_224 M_223 hF => ?_))
        refine g_lcmp_eq 1104 1950 hC dL_law_1100 rfl dL_law_1101 (by decide) rfl (fun c => ?_) (fun c => ?_)
        · have hF := hF.1 c
          exact w_L_law_b1950 hC _ _ _ _ _ hK18 _ _ hu _ hF
        · have hF := hF.2 c
          refine g_iconst 1105 hC (0 : Int32) dL_law_1104 (by decide) rfl ?_
          exact g_zreturn hC ⟨_, rfl, hF⟩ (Or.inl rfl) dL_law_1105 hu.1 hu.2
      · have c : (x_2 &&& (63 : Int32)) = (22 : Int32) := Int32.toInt_inj.mp (c.trans (by decide))
        refine g_tsIn 1106 hC (22 : Int32) c dL_law_33 (by decide) (by decide) rfl (by decide) ?_
        have hF := hF.2.2.2.2.2.2.2.2.2.2.2.2.2.2.2.2.2.2.2.2.2.2.2.1 c
        refine g_aload_n 1107 hC dL_law_1106 rfl 1 rfl rfl ?_
        refine g_aload_n 1108 hC dL_law_1107 rfl 0 rfl rfl ?_
        refine g_iload_n 1109 hC dL_law_1108 rfl 3 rfl rfl ?_
        refine g_iconst 1110 hC (1 : Int32) dL_law_1109 (by decide) rfl ?_
        refine g_iadd 1111 hC dL_law_1110 rfl ?_
        refine g_iald 1112 hC hF dL_law_1111 rfl (fun x_225 hF => ?_)
        refine g_aload_n 1113 hC dL_law_1112 rfl 0 rfl rfl ?_
        refine g_iload_n 1114 hC dL_law_1113 rfl 3 rfl rfl ?_
        refine g_iconst 1115 hC (2 : Int32) dL_law_1114 (by decide) rfl ?_
        refine g_iadd 1116 hC dL_law_1115 rfl ?_
        refine g_iald 1117 hC hF dL_law_1116 rfl (fun x_226 hF => ?_)
        refine g_aload_n 1118 hC dL_law_1117 rfl 0 rfl rfl ?_
        refine g_iload_n 1119 hC dL_law_1118 rfl 3 rfl rfl ?_
        refine g_iconst 1120 hC (3 : Int32) dL_law_1119 (by decide) rfl ?_
        refine g_iadd 1121 hC dL_law_1120 rfl ?_
        refine g_iald 1122 hC hF dL_law_1121 rfl (fun x_227 hF => ?_)
        refine g_aload_n 1123 hC dL_law_1122 rfl 0 rfl rfl ?_
        refine g_iload_n 1124 hC dL_law_1123 rfl 3 rfl rfl ?_
        refine g_iconst 1125 hC (4 : Int32) dL_law_1124 (by decide) rfl ?_
        refine g_iadd 1126 hC dL_law_1125 rfl ?_
        refine g_iald 1127 hC hF dL_law_1126 rfl (fun x_228 hF => ?_)
        obtain ⟨c_231, s_232, hu, hF⟩ := hF
        refine g_xVW (rest := []) wl_L_113 hd_X0_lose (ci := 0) rfl 1130 hC hF.1 (met_X0_lose hF.2) rfl ⟨Nat.le_of_ble_eq_true rfl, Nat.le_of_ble_eq_true rfl⟩ hu rfl (Nat.le_of_ble_eq_true rfl) dL_law_1127 rfl (g_ty_j (u + c_231) (v + s_232) (Nat.le_refl _) (Nat.le_refl _) (fun j_230 M_229 hF => ?_)) (fun _ _ _ h => h.elim)
        refine g_aload_n 1131 hC dL_law_1130 rfl 2 rfl rfl ?_
        refine g_aload_n 1132 hC dL_law_1131 rfl 0 rfl rfl ?_
        refine g_iload_n 1133 hC dL_law_1132 rfl 3 rfl rfl ?_
        refine g_iconst 1134 hC (1 : Int32) dL_law_1133 (by decide) rfl ?_
        refine g_iadd 1135 hC dL_law_1134 rfl ?_
        refine g_iald 1136 hC hF dL_law_1135 rfl (fun x_233 hF => ?_)
        refine g_aload_n 1137 hC dL_law_1136 rfl 0 rfl rfl ?_
        refine g_iload_n 1138 hC dL_law_1137 rfl 3 rfl rfl ?_
        refine g_iconst 1139 hC (2 : Int32) dL_law_1138 (by decide) rfl ?_
        refine g_iadd 1140 hC dL_law_1139 rfl ?_
        refine g_iald 1141 hC hF dL_law_1140 rfl (fun x_234 hF => ?_)
        refine g_aload_n 1142 hC dL_law_1141 rfl 0 rfl rfl ?_
        refine g_iload_n 1143 hC dL_law_1142 rfl 3 rfl rfl ?_
        refine g_iconst 1144 hC (3 : Int32) dL_law_1143 (by decide) rfl ?_
        refine g_iadd 1145 hC dL_law_1144 rfl ?_
        refine g_iald 1146 hC hF dL_law_1145 rfl (fun x_235 hF => ?_)
        refine g_aload_n 1147 hC dL_law_1146 rfl 0 rfl rfl ?_
        refine g_iload_n 1148 hC dL_law_1147 rfl 3 rfl rfl ?_
        refine g_iconst 1149 hC (4 : Int32) dL_law_1148 (by decide) rfl ?_
        refine g_iadd 1150 hC dL_law_1149 rfl ?_
        refine g_iald 1151 hC hF dL_law_1150 rfl (fun x_236 hF => ?_)
        refine g_cV (rest := [_]) wl_L_116 hd_X3_lose (ci := 3) rfl 1154 hC hF.1 (met_X3_lose hF.2) rfl ⟨Nat.le_of_ble_eq_true rfl, Nat.le_of_ble_eq_true rfl⟩ hu rfl (Nat.le_of_ble_eq_true rfl) dL_law_1151 rfl (g_ty_j (u + c_231) (v + s_232) (Nat.le_refl _) (Nat.le_refl _) (fun j_238 M_237 hF => ?_))
        refine g_lcmp_eq 1158 1950 hC dL_law_1154 rfl dL_law_1155 (by decide) rfl (fun c => ?_) (fun c => ?_)
        · have hF := hF.1 c
          exact w_L_law_b1950 hC _ _ _ _ _ hK18 _ _ hu _ hF
        · have hF := hF.2 c
          refine g_iconst 1159 hC (0 : Int32) dL_law_1158 (by decide) rfl ?_
          exact g_zreturn hC ⟨_, rfl, hF⟩ (Or.inl rfl) dL_law_1159 hu.1 hu.2
      · have c : (x_2 &&& (63 : Int32)) = (23 : Int32) := Int32.toInt_inj.mp (c.trans (by decide))
        refine g_tsIn 1160 hC (23 : Int32) c dL_law_33 (by decide) (by decide) rfl (by decide) ?_
        have hF := hF.2.2.2.2.2.2.2.2.2.2.2.2.2.2.2.2.2.2.2.2.2.2.2.2.1 c
        refine g_aload_n 1161 hC dL_law_1160 rfl 1 rfl rfl ?_
        refine g_aload_n 1162 hC dL_law_1161 rfl 0 rfl rfl ?_
        refine g_iload_n 1163 hC dL_law_1162 rfl 3 rfl rfl ?_
        refine g_iconst 1164 hC (1 : Int32) dL_law_1163 (by decide) rfl ?_
        refine g_iadd 1165 hC dL_law_1164 rfl ?_
        refine g_iald 1166 hC hF dL_law_1165 rfl (fun x_239 hF => ?_)
        obtain ⟨c_242, s_243, hu, hF⟩ := hF
        refine g_cV (rest := []) wl_L_117 hd_X0_boy (ci := 0) rfl 1169 hC hF.1 (met_X0_boy hF.2) rfl ⟨Nat.le_of_ble_eq_true rfl, Nat.le_of_ble_eq_true rfl⟩ hu rfl (Nat.le_of_ble_eq_true rfl) dL_law_1166 rfl (g_ty_i (u + c_242) (v + s_243) (Nat.le_refl _) (Nat.le_refl _) (fun x_241 M_240 hF => ?_))
        refine g_aload_n 1170 hC dL_law_1169 rfl 2 rfl rfl ?_
        refine g_aload_n 1171 hC dL_law_1170 rfl 0 rfl rfl ?_
        refine g_iload_n 1172 hC dL_law_1171 rfl 3 rfl rfl ?_
        refine g_iconst 1173 hC (1 : Int32) dL_law_1172 (by decide) rfl ?_
        refine g_iadd 1174 hC dL_law_1173 rfl ?_
        refine g_iald 1175 hC hF dL_law_1174 rfl (fun x_244 hF => ?_)
        refine g_cV (rest := [_]) wl_L_120 hd_X3_boy (ci := 3) rfl 1178 hC hF.1 (met_X3_boy hF.2) rfl ⟨Nat.le_of_ble_eq_true rfl, Nat.le_of_ble_eq_true rfl⟩ hu rfl (Nat.le_of_ble_eq_true rfl) dL_law_1175 rfl (g_ty_i (u + c_242) (v + s_243) (Nat.le_refl _) (Nat.le_refl _) (fun x_246 M_245 hF => ?_))
        refine g_icmp_eq 1181 1950 hC dL_law_1178 (by decide) rfl (fun c => ?_) (fun c => ?_)
        · have hF := hF.1 c
          exact w_L_law_b1950 hC _ _ _ _ _ hK18 _ _ hu _ hF
        · have hF := hF.2 c
          refine g_iconst 1182 hC (0 : Int32) dL_law_1181 (by decide) rfl ?_
          exact g_zreturn hC ⟨_, rfl, hF⟩ (Or.inl rfl) dL_law_1182 hu.1 hu.2
      · have c : (x_2 &&& (63 : Int32)) = (24 : Int32) := Int32.toInt_inj.mp (c.trans (by decide))
        refine g_tsIn 1183 hC (24 : Int32) c dL_law_33 (by decide) (by decide) rfl (by decide) ?_
        have hF := hF.2.2.2.2.2.2.2.2.2.2.2.2.2.2.2.2.2.2.2.2.2.2.2.2.2.1 c
        refine g_aload_n 1184 hC dL_law_1183 rfl 1 rfl rfl ?_
        refine g_aload_n 1185 hC dL_law_1184 rfl 0 rfl rfl ?_
        refine g_iload_n 1186 hC dL_law_1185 rfl 3 rfl rfl ?_
        refine g_iconst 1187 hC (1 : Int32) dL_law_1186 (by decide) rfl ?_
        refine g_iadd 1188 hC dL_law_1187 rfl ?_
        refine g_iald 1189 hC hF dL_law_1188 rfl (fun x_247 hF => ?_)
        refine g_aload_n 1190 hC dL_law_1189 rfl 0 rfl rfl ?_
        refine g_iload_n 1191 hC dL_law_1190 rfl 3 rfl rfl ?_
        refine g_iconst 1192 hC (2 : Int32) dL_law_1191 (by decide) rfl ?_
        refine g_iadd 1193 hC dL_law_1192 rfl ?_
        refine g_iald 1194 hC hF dL_law_1193 rfl (fun x_248 hF => ?_)
        refine g_aload_n 1195 hC dL_law_1194 rfl 0 rfl rfl ?_
        refine g_iload_n 1196 hC dL_law_1195 rfl 3 rfl rfl ?_
        refine g_iconst 1197 hC (3 : Int32) dL_law_1196 (by decide) rfl ?_
        refine g_iadd 1198 hC dL_law_1197 rfl ?_
        refine g_iald 1199 hC hF dL_law_1198 rfl (fun x_249 hF => ?_)
        obtain ⟨c_252, s_253, hu, hF⟩ := hF
        refine g_cV (rest := []) wl_L_121 hd_X0_waits (ci := 0) rfl 1202 hC hF.1 (met_X0_waits hF.2) rfl ⟨Nat.le_of_ble_eq_true rfl, Nat.le_of_ble_eq_true rfl⟩ hu rfl (Nat.le_of_ble_eq_true rfl) dL_law_1199 rfl (g_ty_j (u + c_252) (v + s_253) (Nat.le_refl _) (Nat.le_refl _) (fun j_251 M_250 hF => ?_))
        refine g_aload_n 1203 hC dL_law_1202 rfl 2 rfl rfl ?_
        refine g_aload_n 1204 hC dL_law_1203 rfl 0 rfl rfl ?_
        refine g_iload_n 1205 hC dL_law_1204 rfl 3 rfl rfl ?_
        refine g_iconst 1206 hC (1 : Int32) dL_law_1205 (by decide) rfl ?_
        refine g_iadd 1207 hC dL_law_1206 rfl ?_
        refine g_iald 1208 hC hF dL_law_1207 rfl (fun x_254 hF => ?_)
        refine g_aload_n 1209 hC dL_law_1208 rfl 0 rfl rfl ?_
        refine g_iload_n 1210 hC dL_law_1209 rfl 3 rfl rfl ?_
        refine g_iconst 1211 hC (2 : Int32) dL_law_1210 (by decide) rfl ?_
        refine g_iadd 1212 hC dL_law_1211 rfl ?_
        refine g_iald 1213 hC hF dL_law_1212 rfl (fun x_255 hF => ?_)
        refine g_aload_n 1214 hC dL_law_1213 rfl 0 rfl rfl ?_
        refine g_iload_n 1215 hC dL_law_1214 rfl 3 rfl rfl ?_
        refine g_iconst 1216 hC (3 : Int32) dL_law_1215 (by decide) rfl ?_
        refine g_iadd 1217 hC dL_law_1216 rfl ?_
        refine g_iald 1218 hC hF dL_law_1217 rfl (fun x_256 hF => ?_)
        refine g_cV (rest := [_]) wl_L_124 hd_X3_waits (ci := 3) rfl 1221 hC hF.1 (met_X3_waits hF.2) rfl ⟨Nat.le_of_ble_eq_true rfl, Nat.le_of_ble_eq_true rfl⟩ hu rfl (Nat.le_of_ble_eq_true rfl) dL_law_1218 rfl (g_ty_j (u + c_252) (v + s_253) (Nat.le_refl _) (Nat.le_refl _) (fun j_258 M_257 hF => ?_))
        refine g_lcmp_eq 1225 1950 hC dL_law_1221 rfl dL_law_1222 (by decide) rfl (fun c => ?_) (fun c => ?_)
        · have hF := hF.1 c
          exact w_L_law_b1950 hC _ _ _ _ _ hK18 _ _ hu _ hF
        · have hF := hF.2 c
          refine g_iconst 1226 hC (0 : Int32) dL_law_1225 (by decide) rfl ?_
          exact g_zreturn hC ⟨_, rfl, hF⟩ (Or.inl rfl) dL_law_1226 hu.1 hu.2
      · have c : (x_2 &&& (63 : Int32)) = (25 : Int32) := Int32.toInt_inj.mp (c.trans (by decide))
        refine g_tsIn 1227 hC (25 : Int32) c dL_law_33 (by decide) (by decide) rfl (by decide) ?_
        have hF := hF.2.2.2.2.2.2.2.2.2.2.2.2.2.2.2.2.2.2.2.2.2.2.2.2.2.2.1 c
        refine g_aload_n 1228 hC dL_law_1227 rfl 1 rfl rfl ?_
        refine g_aload_n 1229 hC dL_law_1228 rfl 0 rfl rfl ?_
        refine g_iload_n 1230 hC dL_law_1229 rfl 3 rfl rfl ?_
        refine g_iconst 1231 hC (1 : Int32) dL_law_1230 (by decide) rfl ?_
        refine g_iadd 1232 hC dL_law_1231 rfl ?_
        refine g_iald 1233 hC hF dL_law_1232 rfl (fun x_259 hF => ?_)
        refine g_aload_n 1234 hC dL_law_1233 rfl 0 rfl rfl ?_
        refine g_iload_n 1235 hC dL_law_1234 rfl 3 rfl rfl ?_
        refine g_iconst 1236 hC (2 : Int32) dL_law_1235 (by decide) rfl ?_
        refine g_iadd 1237 hC dL_law_1236 rfl ?_
        refine g_iald 1238 hC hF dL_law_1237 rfl (fun x_260 hF => ?_)
        refine g_aload_n 1239 hC dL_law_1238 rfl 0 rfl rfl ?_
        refine g_iload_n 1240 hC dL_law_1239 rfl 3 rfl rfl ?_
        refine g_iconst 1241 hC (3 : Int32) dL_law_1240 (by decide) rfl ?_
        refine g_iadd 1242 hC dL_law_1241 rfl ?_
        refine g_iald 1243 hC hF dL_law_1242 rfl (fun x_261 hF => ?_)
        obtain ⟨c_264, s_265, hu, hF⟩ := hF
        refine g_cV (rest := []) wl_L_125 hd_X0_once (ci := 0) rfl 1246 hC hF.1 (met_X0_once hF.2) rfl ⟨Nat.le_of_ble_eq_true rfl, Nat.le_of_ble_eq_true rfl⟩ hu rfl (Nat.le_of_ble_eq_true rfl) dL_law_1243 rfl (g_ty_j (u + c_264) (v + s_265) (Nat.le_refl _) (Nat.le_refl _) (fun j_263 M_262 hF => ?_))
        refine g_aload_n 1247 hC dL_law_1246 rfl 2 rfl rfl ?_
        refine g_aload_n 1248 hC dL_law_1247 rfl 0 rfl rfl ?_
        refine g_iload_n 1249 hC dL_law_1248 rfl 3 rfl rfl ?_
        refine g_iconst 1250 hC (1 : Int32) dL_law_1249 (by decide) rfl ?_
        refine g_iadd 1251 hC dL_law_1250 rfl ?_
        refine g_iald 1252 hC hF dL_law_1251 rfl (fun x_266 hF => ?_)
        refine g_aload_n 1253 hC dL_law_1252 rfl 0 rfl rfl ?_
        refine g_iload_n 1254 hC dL_law_1253 rfl 3 rfl rfl ?_
        refine g_iconst 1255 hC (2 : Int32) dL_law_1254 (by decide) rfl ?_
        refine g_iadd 1256 hC dL_law_1255 rfl ?_
        refine g_iald 1257 hC hF dL_law_1256 rfl (fun x_267 hF => ?_)
        refine g_aload_n 1258 hC dL_law_1257 rfl 0 rfl rfl ?_
        refine g_iload_n 1259 hC dL_law_1258 rfl 3 rfl rfl ?_
        refine g_iconst 1260 hC (3 : Int32) dL_law_1259 (by decide) rfl ?_
        refine g_iadd 1261 hC dL_law_1260 rfl ?_
        refine g_iald 1262 hC hF dL_law_1261 rfl (fun x_268 hF => ?_)
        refine g_cV (rest := [_]) wl_L_128 hd_X3_once (ci := 3) rfl 1265 hC hF.1 (met_X3_once hF.2) rfl ⟨Nat.le_of_ble_eq_true rfl, Nat.le_of_ble_eq_true rfl⟩ hu rfl (Nat.le_of_ble_eq_true rfl) dL_law_1262 rfl (g_ty_j (u + c_264) (v + s_265) (Nat.le_refl _) (Nat.le_refl _) (fun j_270 M_269 hF => ?_))
        refine g_lcmp_eq 1269 1950 hC dL_law_1265 rfl dL_law_1266 (by decide) rfl (fun c => ?_) (fun c => ?_)
        · have hF := hF.1 c
          exact w_L_law_b1950 hC _ _ _ _ _ hK18 _ _ hu _ hF
        · have hF := hF.2 c
          refine g_iconst 1270 hC (0 : Int32) dL_law_1269 (by decide) rfl ?_
          exact g_zreturn hC ⟨_, rfl, hF⟩ (Or.inl rfl) dL_law_1270 hu.1 hu.2
      · have c : (x_2 &&& (63 : Int32)) = (26 : Int32) := Int32.toInt_inj.mp (c.trans (by decide))
        refine g_tsIn 1271 hC (26 : Int32) c dL_law_33 (by decide) (by decide) rfl (by decide) ?_
        have hF := hF.2.2.2.2.2.2.2.2.2.2.2.2.2.2.2.2.2.2.2.2.2.2.2.2.2.2.2.1 c
        refine g_aload_n 1272 hC dL_law_1271 rfl 1 rfl rfl ?_
        refine g_aload_n 1273 hC dL_law_1272 rfl 0 rfl rfl ?_
        refine g_iload_n 1274 hC dL_law_1273 rfl 3 rfl rfl ?_
        refine g_iconst 1275 hC (1 : Int32) dL_law_1274 (by decide) rfl ?_
        refine g_iadd 1276 hC dL_law_1275 rfl ?_
        refine g_iald 1277 hC hF dL_law_1276 rfl (fun x_271 hF => ?_)
        refine g_aload_n 1278 hC dL_law_1277 rfl 0 rfl rfl ?_
        refine g_iload_n 1279 hC dL_law_1278 rfl 3 rfl rfl ?_
        refine g_iconst 1280 hC (2 : Int32) dL_law_1279 (by decide) rfl ?_
        refine g_iadd 1281 hC dL_law_1280 rfl ?_
        refine g_iald 1282 hC hF dL_law_1281 rfl (fun x_272 hF => ?_)
        refine g_aload_n 1283 hC dL_law_1282 rfl 0 rfl rfl ?_
        refine g_iload_n 1284 hC dL_law_1283 rfl 3 rfl rfl ?_
        refine g_iconst 1285 hC (3 : Int32) dL_law_1284 (by decide) rfl ?_
        refine g_iadd 1286 hC dL_law_1285 rfl ?_
        refine g_iald 1287 hC hF dL_law_1286 rfl (fun x_273 hF => ?_)
        refine g_aload_n 1288 hC dL_law_1287 rfl 0 rfl rfl ?_
        refine g_iload_n 1289 hC dL_law_1288 rfl 3 rfl rfl ?_
        refine g_iconst 1290 hC (4 : Int32) dL_law_1289 (by decide) rfl ?_
        refine g_iadd 1291 hC dL_law_1290 rfl ?_
        refine g_iald 1292 hC hF dL_law_1291 rfl (fun x_274 hF => ?_)
        obtain ⟨c_277, s_278, hu, hF⟩ := hF
        refine g_cV (rest := []) wl_L_129 hd_X0_dear (ci := 0) rfl 1295 hC hF.1 (met_X0_dear hF.2) rfl ⟨Nat.le_of_ble_eq_true rfl, Nat.le_of_ble_eq_true rfl⟩ hu rfl (Nat.le_of_ble_eq_true rfl) dL_law_1292 rfl (g_ty_j (u + c_277) (v + s_278) (Nat.le_refl _) (Nat.le_refl _) (fun j_276 M_275 hF => ?_))
        refine g_aload_n 1296 hC dL_law_1295 rfl 2 rfl rfl ?_
        refine g_aload_n 1297 hC dL_law_1296 rfl 0 rfl rfl ?_
        refine g_iload_n 1298 hC dL_law_1297 rfl 3 rfl rfl ?_
        refine g_iconst 1299 hC (1 : Int32) dL_law_1298 (by decide) rfl ?_
        refine g_iadd 1300 hC dL_law_1299 rfl ?_
        refine g_iald 1301 hC hF dL_law_1300 rfl (fun x_279 hF => ?_)
        refine g_aload_n 1302 hC dL_law_1301 rfl 0 rfl rfl ?_
        refine g_iload_n 1303 hC dL_law_1302 rfl 3 rfl rfl ?_
        refine g_iconst 1304 hC (2 : Int32) dL_law_1303 (by decide) rfl ?_
        refine g_iadd 1305 hC dL_law_1304 rfl ?_
        refine g_iald 1306 hC hF dL_law_1305 rfl (fun x_280 hF => ?_)
        refine g_aload_n 1307 hC dL_law_1306 rfl 0 rfl rfl ?_
        refine g_iload_n 1308 hC dL_law_1307 rfl 3 rfl rfl ?_
        refine g_iconst 1309 hC (3 : Int32) dL_law_1308 (by decide) rfl ?_
        refine g_iadd 1310 hC dL_law_1309 rfl ?_
        refine g_iald 1311 hC hF dL_law_1310 rfl (fun x_281 hF => ?_)
        refine g_aload_n 1312 hC dL_law_1311 rfl 0 rfl rfl ?_
        refine g_iload_n 1313 hC dL_law_1312 rfl 3 rfl rfl ?_
        refine g_iconst 1314 hC (4 : Int32) dL_law_1313 (by decide) rfl ?_
        refine g_iadd 1315 hC dL_law_1314 rfl ?_
        refine g_iald 1316 hC hF dL_law_1315 rfl (fun x_282 hF => ?_)
        refine g_cV (rest := [_]) wl_L_132 hd_X3_dear (ci := 3) rfl 1319 hC hF.1 (met_X3_dear hF.2) rfl ⟨Nat.le_of_ble_eq_true rfl, Nat.le_of_ble_eq_true rfl⟩ hu rfl (Nat.le_of_ble_eq_true rfl) dL_law_1316 rfl (g_ty_j (u + c_277) (v + s_278) (Nat.le_refl _) (Nat.le_refl _) (fun j_284 M_283 hF => ?_))
        refine g_lcmp_eq 1323 1950 hC dL_law_1319 rfl dL_law_1320 (by decide) rfl (fun c => ?_) (fun c => ?_)
        · have hF := hF.1 c
          exact w_L_law_b1950 hC _ _ _ _ _ hK18 _ _ hu _ hF
        · have hF := hF.2 c
          refine g_iconst 1324 hC (0 : Int32) dL_law_1323 (by decide) rfl ?_
          exact g_zreturn hC ⟨_, rfl, hF⟩ (Or.inl rfl) dL_law_1324 hu.1 hu.2
      · have c : (x_2 &&& (63 : Int32)) = (27 : Int32) := Int32.toInt_inj.mp (c.trans (by decide))
        refine g_tsIn 1325 hC (27 : Int32) c dL_law_33 (by decide) (by decide) rfl (by decide) ?_
        have hF := hF.2.2.2.2.2.2.2.2.2.2.2.2.2.2.2.2.2.2.2.2.2.2.2.2.2.2.2.2.1 c
        refine g_aload_n 1326 hC dL_law_1325 rfl 1 rfl rfl ?_
        refine g_aload_n 1327 hC dL_law_1326 rfl 0 rfl rfl ?_
        refine g_iload_n 1328 hC dL_law_1327 rfl 3 rfl rfl ?_
        refine g_iconst 1329 hC (1 : Int32) dL_law_1328 (by decide) rfl ?_
        refine g_iadd 1330 hC dL_law_1329 rfl ?_
        refine g_iald 1331 hC hF dL_law_1330 rfl (fun x_285 hF => ?_)
        refine g_aload_n 1332 hC dL_law_1331 rfl 0 rfl rfl ?_
        refine g_iload_n 1333 hC dL_law_1332 rfl 3 rfl rfl ?_
        refine g_iconst 1334 hC (2 : Int32) dL_law_1333 (by decide) rfl ?_
        refine g_iadd 1335 hC dL_law_1334 rfl ?_
        refine g_iald 1336 hC hF dL_law_1335 rfl (fun x_286 hF => ?_)
        refine g_aload_n 1337 hC dL_law_1336 rfl 0 rfl rfl ?_
        refine g_iload_n 1338 hC dL_law_1337 rfl 3 rfl rfl ?_
        refine g_iconst 1339 hC (3 : Int32) dL_law_1338 (by decide) rfl ?_
        refine g_iadd 1340 hC dL_law_1339 rfl ?_
        refine g_iald 1341 hC hF dL_law_1340 rfl (fun x_287 hF => ?_)
        refine g_aload_n 1342 hC dL_law_1341 rfl 0 rfl rfl ?_
        refine g_iload_n 1343 hC dL_law_1342 rfl 3 rfl rfl ?_
        refine g_iconst 1344 hC (4 : Int32) dL_law_1343 (by decide) rfl ?_
        refine g_iadd 1345 hC dL_law_1344 rfl ?_
        refine g_iald 1346 hC hF dL_law_1345 rfl (fun x_288 hF => ?_)
        obtain ⟨c_291, s_292, hu, hF⟩ := hF
        refine g_xVW (rest := []) wl_L_133 hd_X0_chance (ci := 0) rfl 1349 hC hF.1 (met_X0_chance hF.2) rfl ⟨Nat.le_of_ble_eq_true rfl, Nat.le_of_ble_eq_true rfl⟩ hu rfl (Nat.le_of_ble_eq_true rfl) dL_law_1346 rfl (g_ty_j (u + c_291) (v + s_292) (Nat.le_refl _) (Nat.le_refl _) (fun j_290 M_289 hF => ?_)) (fun _ _ _ h => h.elim)
        refine g_aload_n 1350 hC dL_law_1349 rfl 2 rfl rfl ?_
        refine g_aload_n 1351 hC dL_law_1350 rfl 0 rfl rfl ?_
        refine g_iload_n 1352 hC dL_law_1351 rfl 3 rfl rfl ?_
        refine g_iconst 1353 hC (1 : Int32) dL_law_1352 (by decide) rfl ?_
        refine g_iadd 1354 hC dL_law_1353 rfl ?_
        refine g_iald 1355 hC hF dL_law_1354 rfl (fun x_293 hF => ?_)
        refine g_aload_n 1356 hC dL_law_1355 rfl 0 rfl rfl ?_
        refine g_iload_n 1357 hC dL_law_1356 rfl 3 rfl rfl ?_
        refine g_iconst 1358 hC (2 : Int32) dL_law_1357 (by decide) rfl ?_
        refine g_iadd 1359 hC dL_law_1358 rfl ?_
        refine g_iald 1360 hC hF dL_law_1359 rfl (fun x_294 hF => ?_)
        refine g_aload_n 1361 hC dL_law_1360 rfl 0 rfl rfl ?_
        refine g_iload_n 1362 hC dL_law_1361 rfl 3 rfl rfl ?_
        refine g_iconst 1363 hC (3 : Int32) dL_law_1362 (by decide) rfl ?_
        refine g_iadd 1364 hC dL_law_1363 rfl ?_
        refine g_iald 1365 hC hF dL_law_1364 rfl (fun x_295 hF => ?_)
        refine g_aload_n 1366 hC dL_law_1365 rfl 0 rfl rfl ?_
        refine g_iload_n 1367 hC dL_law_1366 rfl 3 rfl rfl ?_
        refine g_iconst 1368 hC (4 : Int32) dL_law_1367 (by decide) rfl ?_
        refine g_iadd 1369 hC dL_law_1368 rfl ?_
        refine g_iald 1370 hC hF dL_law_1369 rfl (fun x_296 hF => ?_)
        refine g_cV (rest := [_]) wl_L_136 hd_X3_chance (ci := 3) rfl 1373 hC hF.1 (met_X3_chance hF.2) rfl ⟨Nat.le_of_ble_eq_true rfl, Nat.le_of_ble_eq_true rfl⟩ hu rfl (Nat.le_of_ble_eq_true rfl) dL_law_1370 rfl (g_ty_j (u + c_291) (v + s_292) (Nat.le_refl _) (Nat.le_refl _) (fun j_298 M_297 hF => ?_))
        refine g_lcmp_eq 1377 1950 hC dL_law_1373 rfl dL_law_1374 (by decide) rfl (fun c => ?_) (fun c => ?_)
        · have hF := hF.1 c
          exact w_L_law_b1950 hC _ _ _ _ _ hK18 _ _ hu _ hF
        · have hF := hF.2 c
          refine g_iconst 1378 hC (0 : Int32) dL_law_1377 (by decide) rfl ?_
          exact g_zreturn hC ⟨_, rfl, hF⟩ (Or.inl rfl) dL_law_1378 hu.1 hu.2
      · have c : (x_2 &&& (63 : Int32)) = (28 : Int32) := Int32.toInt_inj.mp (c.trans (by decide))
        refine g_tsIn 1379 hC (28 : Int32) c dL_law_33 (by decide) (by decide) rfl (by decide) ?_
        have hF := hF.2.2.2.2.2.2.2.2.2.2.2.2.2.2.2.2.2.2.2.2.2.2.2.2.2.2.2.2.2.1 c
        refine g_aload_n 1380 hC dL_law_1379 rfl 1 rfl rfl ?_
        refine g_aload_n 1381 hC dL_law_1380 rfl 0 rfl rfl ?_
        refine g_iload_n 1382 hC dL_law_1381 rfl 3 rfl rfl ?_
        refine g_iconst 1383 hC (1 : Int32) dL_law_1382 (by decide) rfl ?_
        refine g_iadd 1384 hC dL_law_1383 rfl ?_
        refine g_iald 1385 hC hF dL_law_1384 rfl (fun x_299 hF => ?_)
        refine g_aload_n 1386 hC dL_law_1385 rfl 0 rfl rfl ?_
        refine g_iload_n 1387 hC dL_law_1386 rfl 3 rfl rfl ?_
        refine g_iconst 1388 hC (2 : Int32) dL_law_1387 (by decide) rfl ?_
        refine g_iadd 1389 hC dL_law_1388 rfl ?_
        refine g_iald 1390 hC hF dL_law_1389 rfl (fun x_300 hF => ?_)
        refine g_aload_n 1391 hC dL_law_1390 rfl 0 rfl rfl ?_
        refine g_iload_n 1392 hC dL_law_1391 rfl 3 rfl rfl ?_
        refine g_iconst 1393 hC (3 : Int32) dL_law_1392 (by decide) rfl ?_
        refine g_iadd 1394 hC dL_law_1393 rfl ?_
        refine g_iald 1395 hC hF dL_law_1394 rfl (fun x_301 hF => ?_)
        obtain ⟨c_304, s_305, hu, hF⟩ := hF
        refine g_xVW (rest := []) wl_L_137 hd_X0_reach (ci := 0) rfl 1398 hC hF.1 (met_X0_reach hF.2) rfl ⟨Nat.le_of_ble_eq_true rfl, Nat.le_of_ble_eq_true rfl⟩ hu rfl (Nat.le_of_ble_eq_true rfl) dL_law_1395 rfl (g_ty_i (u + c_304) (v + s_305) (Nat.le_refl _) (Nat.le_refl _) (fun x_303 M_302 hF => ?_)) (fun _ _ _ h => h.elim)
        refine g_aload_n 1399 hC dL_law_1398 rfl 2 rfl rfl ?_
        refine g_aload_n 1400 hC dL_law_1399 rfl 0 rfl rfl ?_
        refine g_iload_n 1401 hC dL_law_1400 rfl 3 rfl rfl ?_
        refine g_iconst 1402 hC (1 : Int32) dL_law_1401 (by decide) rfl ?_
        refine g_iadd 1403 hC dL_law_1402 rfl ?_
        refine g_iald 1404 hC hF dL_law_1403 rfl (fun x_306 hF => ?_)
        refine g_aload_n 1405 hC dL_law_1404 rfl 0 rfl rfl ?_
        refine g_iload_n 1406 hC dL_law_1405 rfl 3 rfl rfl ?_
        refine g_iconst 1407 hC (2 : Int32) dL_law_1406 (by decide) rfl ?_
        refine g_iadd 1408 hC dL_law_1407 rfl ?_
        refine g_iald 1409 hC hF dL_law_1408 rfl (fun x_307 hF => ?_)
        refine g_aload_n 1410 hC dL_law_1409 rfl 0 rfl rfl ?_
        refine g_iload_n 1411 hC dL_law_1410 rfl 3 rfl rfl ?_
        refine g_iconst 1412 hC (3 : Int32) dL_law_1411 (by decide) rfl ?_
        refine g_iadd 1413 hC dL_law_1412 rfl ?_
        refine g_iald 1414 hC hF dL_law_1413 rfl (fun x_308 hF => ?_)
        refine g_cV (rest := [_]) wl_L_140 hd_X3_reach (ci := 3) rfl 1417 hC hF.1 (met_X3_reach hF.2) rfl ⟨Nat.le_of_ble_eq_true rfl, Nat.le_of_ble_eq_true rfl⟩ hu rfl (Nat.le_of_ble_eq_true rfl) dL_law_1414 rfl (g_ty_i (u + c_304) (v + s_305) (Nat.le_refl _) (Nat.le_refl _) (fun x_310 M_309 hF => ?_))
        refine g_icmp_eq 1420 1950 hC dL_law_1417 (by decide) rfl (fun c => ?_) (fun c => ?_)
        · have hF := hF.1 c
          exact w_L_law_b1950 hC _ _ _ _ _ hK18 _ _ hu _ hF
        · have hF := hF.2 c
          refine g_iconst 1421 hC (0 : Int32) dL_law_1420 (by decide) rfl ?_
          exact g_zreturn hC ⟨_, rfl, hF⟩ (Or.inl rfl) dL_law_1421 hu.1 hu.2
      · have c : (x_2 &&& (63 : Int32)) = (29 : Int32) := Int32.toInt_inj.mp (c.trans (by decide))
        refine g_tsIn 1422 hC (29 : Int32) c dL_law_33 (by decide) (by decide) rfl (by decide) ?_
        have hF := hF.2.2.2.2.2.2.2.2.2.2.2.2.2.2.2.2.2.2.2.2.2.2.2.2.2.2.2.2.2.2.1 c
        refine g_aload_n 1423 hC dL_law_1422 rfl 1 rfl rfl ?_
        refine g_aload_n 1424 hC dL_law_1423 rfl 0 rfl rfl ?_
        refine g_iload_n 1425 hC dL_law_1424 rfl 3 rfl rfl ?_
        refine g_iconst 1426 hC (1 : Int32) dL_law_1425 (by decide) rfl ?_
        refine g_iadd 1427 hC dL_law_1426 rfl ?_
        refine g_iald 1428 hC hF dL_law_1427 rfl (fun x_311 hF => ?_)
        refine g_aload_n 1429 hC dL_law_1428 rfl 0 rfl rfl ?_
        refine g_iload_n 1430 hC dL_law_1429 rfl 3 rfl rfl ?_
        refine g_iconst 1431 hC (2 : Int32) dL_law_1430 (by decide) rfl ?_
        refine g_iadd 1432 hC dL_law_1431 rfl ?_
        refine g_iald 1433 hC hF dL_law_1432 rfl (fun x_312 hF => ?_)
        refine g_aload_n 1434 hC dL_law_1433 rfl 0 rfl rfl ?_
        refine g_iload_n 1435 hC dL_law_1434 rfl 3 rfl rfl ?_
        refine g_iconst 1436 hC (3 : Int32) dL_law_1435 (by decide) rfl ?_
        refine g_iadd 1437 hC dL_law_1436 rfl ?_
        refine g_iald 1438 hC hF dL_law_1437 rfl (fun x_313 hF => ?_)
        obtain ⟨c_316, s_317, hu, hF⟩ := hF
        refine g_xVW (rest := []) wl_L_141 hd_X0_held (ci := 0) rfl 1441 hC hF.1 (met_X0_held hF.2) rfl ⟨Nat.le_of_ble_eq_true rfl, Nat.le_of_ble_eq_true rfl⟩ hu rfl (Nat.le_of_ble_eq_true rfl) dL_law_1438 rfl (g_ty_j (u + c_316) (v + s_317) (Nat.le_refl _) (Nat.le_refl _) (fun j_315 M_314 hF => ?_)) (fun _ _ _ h => h.elim)
        refine g_aload_n 1442 hC dL_law_1441 rfl 2 rfl rfl ?_
        refine g_aload_n 1443 hC dL_law_1442 rfl 0 rfl rfl ?_
        refine g_iload_n 1444 hC dL_law_1443 rfl 3 rfl rfl ?_
        refine g_iconst 1445 hC (1 : Int32) dL_law_1444 (by decide) rfl ?_
        refine g_iadd 1446 hC dL_law_1445 rfl ?_
        refine g_iald 1447 hC hF dL_law_1446 rfl (fun x_318 hF => ?_)
        refine g_aload_n 1448 hC dL_law_1447 rfl 0 rfl rfl ?_
        refine g_iload_n 1449 hC dL_law_1448 rfl 3 rfl rfl ?_
        refine g_iconst 1450 hC (2 : Int32) dL_law_1449 (by decide) rfl ?_
        refine g_iadd 1451 hC dL_law_1450 rfl ?_
        refine g_iald 1452 hC hF dL_law_1451 rfl (fun x_319 hF => ?_)
        refine g_aload_n 1453 hC dL_law_1452 rfl 0 rfl rfl ?_
        refine g_iload_n 1454 hC dL_law_1453 rfl 3 rfl rfl ?_
        refine g_iconst 1455 hC (3 : Int32) dL_law_1454 (by decide) rfl ?_
        refine g_iadd 1456 hC dL_law_1455 rfl ?_
        refine g_iald 1457 hC hF dL_law_1456 rfl (fun x_320 hF => ?_)
        refine g_cV (rest := [_]) wl_L_144 hd_X3_held (ci := 3) rfl 1460 hC hF.1 (met_X3_held hF.2) rfl ⟨Nat.le_of_ble_eq_true rfl, Nat.le_of_ble_eq_true rfl⟩ hu rfl (Nat.le_of_ble_eq_true rfl) dL_law_1457 rfl (g_ty_j (u + c_316) (v + s_317) (Nat.le_refl _) (Nat.le_refl _) (fun j_322 M_321 hF => ?_))
        refine g_lcmp_eq 1464 1950 hC dL_law_1460 rfl dL_law_1461 (by decide) rfl (fun c => ?_) (fun c => ?_)
        · have hF := hF.1 c
          exact w_L_law_b1950 hC _ _ _ _ _ hK18 _ _ hu _ hF
        · have hF := hF.2 c
          refine g_iconst 1465 hC (0 : Int32) dL_law_1464 (by decide) rfl ?_
          exact g_zreturn hC ⟨_, rfl, hF⟩ (Or.inl rfl) dL_law_1465 hu.1 hu.2
      · have c : (x_2 &&& (63 : Int32)) = (30 : Int32) := Int32.toInt_inj.mp (c.trans (by decide))
        refine g_tsIn 1466 hC (30 : Int32) c dL_law_33 (by decide) (by decide) rfl (by decide) ?_
        have hF := hF.2.2.2.2.2.2.2.2.2.2.2.2.2.2.2.2.2.2.2.2.2.2.2.2.2.2.2.2.2.2.2.1 c
        refine g_aload_n 1467 hC dL_law_1466 rfl 1 rfl rfl ?_
        refine g_aload_n 1468 hC dL_law_1467 rfl 0 rfl rfl ?_
        refine g_iload_n 1469 hC dL_law_1468 rfl 3 rfl rfl ?_
        refine g_iconst 1470 hC (1 : Int32) dL_law_1469 (by decide) rfl ?_
        refine g_iadd 1471 hC dL_law_1470 rfl ?_
        refine g_iald 1472 hC hF dL_law_1471 rfl (fun x_323 hF => ?_)
        refine g_aload_n 1473 hC dL_law_1472 rfl 0 rfl rfl ?_
        refine g_iload_n 1474 hC dL_law_1473 rfl 3 rfl rfl ?_
        refine g_iconst 1475 hC (2 : Int32) dL_law_1474 (by decide) rfl ?_
        refine g_iadd 1476 hC dL_law_1475 rfl ?_
        refine g_iald 1477 hC hF dL_law_1476 rfl (fun x_324 hF => ?_)
        obtain ⟨c_327, s_328, hu, hF⟩ := hF
        refine g_xVW (rest := []) wl_L_145 hd_X0_boxes (ci := 0) rfl 1480 hC hF.1 (met_X0_boxes hF.2) rfl ⟨Nat.le_of_ble_eq_true rfl, Nat.le_of_ble_eq_true rfl⟩ hu rfl (Nat.le_of_ble_eq_true rfl) dL_law_1477 rfl (g_ty_j (u + c_327) (v + s_328) (Nat.le_refl _) (Nat.le_refl _) (fun j_326 M_325 hF => ?_)) (fun _ _ _ h => h.elim)
        refine g_aload_n 1481 hC dL_law_1480 rfl 2 rfl rfl ?_
        refine g_aload_n 1482 hC dL_law_1481 rfl 0 rfl rfl ?_
        refine g_iload_n 1483 hC dL_law_1482 rfl 3 rfl rfl ?_
        refine g_iconst 1484 hC (1 : Int32) dL_law_1483 (by decide) rfl ?_
        refine g_iadd 1485 hC dL_law_1484 rfl ?_
        refine g_iald 1486 hC hF dL_law_1485 rfl (fun x_329 hF => ?_)
        refine g_aload_n 1487 hC dL_law_1486 rfl 0 rfl rfl ?_
        refine g_iload_n 1488 hC dL_law_1487 rfl 3 rfl rfl ?_
        refine g_iconst 1489 hC (2 : Int32) dL_law_1488 (by decide) rfl ?_
        refine g_iadd 1490 hC dL_law_1489 rfl ?_
        refine g_iald 1491 hC hF dL_law_1490 rfl (fun x_330 hF => ?_)
        refine g_cV (rest := [_]) wl_L_148 hd_X3_boxes (ci := 3) rfl 1494 hC hF.1 (met_X3_boxes hF.2) rfl ⟨Nat.le_of_ble_eq_true rfl, Nat.le_of_ble_eq_true rfl⟩ hu rfl (Nat.le_of_ble_eq_true rfl) dL_law_1491 rfl (g_ty_j (u + c_327) (v + s_328) (Nat.le_refl _) (Nat.le_refl _) (fun j_332 M_331 hF => ?_))
        refine g_lcmp_eq 1498 1950 hC dL_law_1494 rfl dL_law_1495 (by decide) rfl (fun c => ?_) (fun c => ?_)
        · have hF := hF.1 c
          exact w_L_law_b1950 hC _ _ _ _ _ hK18 _ _ hu _ hF
        · have hF := hF.2 c
          refine g_iconst 1499 hC (0 : Int32) dL_law_1498 (by decide) rfl ?_
          exact g_zreturn hC ⟨_, rfl, hF⟩ (Or.inl rfl) dL_law_1499 hu.1 hu.2
      · have c : (x_2 &&& (63 : Int32)) = (31 : Int32) := Int32.toInt_inj.mp (c.trans (by decide))
        refine g_tsIn 1500 hC (31 : Int32) c dL_law_33 (by decide) (by decide) rfl (by decide) ?_
        have hF := hF.2.2.2.2.2.2.2.2.2.2.2.2.2.2.2.2.2.2.2.2.2.2.2.2.2.2.2.2.2.2.2.2.1 c
        refine g_aload_n 1501 hC dL_law_1500 rfl 1 rfl rfl ?_
        refine g_aload_n 1502 hC dL_law_1501 rfl 0 rfl rfl ?_
        refine g_iload_n 1503 hC dL_law_1502 rfl 3 rfl rfl ?_
        refine g_iconst 1504 hC (1 : Int32) dL_law_1503 (by decide) rfl ?_
        refine g_iadd 1505 hC dL_law_1504 rfl ?_
        refine g_iald 1506 hC hF dL_law_1505 rfl (fun x_333 hF => ?_)
        obtain ⟨c_336, s_337, hu, hF⟩ := hF
        refine g_cV (rest := []) wl_L_149 hd_X0_plain (ci := 0) rfl 1509 hC hF.1 (met_X0_plain hF.2) rfl ⟨Nat.le_of_ble_eq_true rfl, Nat.le_of_ble_eq_true rfl⟩ hu rfl (Nat.le_of_ble_eq_true rfl) dL_law_1506 rfl (g_ty_i (u + c_336) (v + s_337) (Nat.le_refl _) (Nat.le_refl _) (fun x_335 M_334 hF => ?_))
        refine g_aload_n 1510 hC dL_law_1509 rfl 2 rfl rfl ?_
        refine g_aload_n 1511 hC dL_law_1510 rfl 0 rfl rfl ?_
        refine g_iload_n 1512 hC dL_law_1511 rfl 3 rfl rfl ?_
        refine g_iconst 1513 hC (1 : Int32) dL_law_1512 (by decide) rfl ?_
        refine g_iadd 1514 hC dL_law_1513 rfl ?_
        refine g_iald 1515 hC hF dL_law_1514 rfl (fun x_338 hF => ?_)
        refine g_cV (rest := [_]) wl_L_152 hd_X3_plain (ci := 3) rfl 1518 hC hF.1 (met_X3_plain hF.2) rfl ⟨Nat.le_of_ble_eq_true rfl, Nat.le_of_ble_eq_true rfl⟩ hu rfl (Nat.le_of_ble_eq_true rfl) dL_law_1515 rfl (g_ty_i (u + c_336) (v + s_337) (Nat.le_refl _) (Nat.le_refl _) (fun x_340 M_339 hF => ?_))
        refine g_icmp_eq 1521 1950 hC dL_law_1518 (by decide) rfl (fun c => ?_) (fun c => ?_)
        · have hF := hF.1 c
          exact w_L_law_b1950 hC _ _ _ _ _ hK18 _ _ hu _ hF
        · have hF := hF.2 c
          refine g_iconst 1522 hC (0 : Int32) dL_law_1521 (by decide) rfl ?_
          exact g_zreturn hC ⟨_, rfl, hF⟩ (Or.inl rfl) dL_law_1522 hu.1 hu.2
      · have c : (x_2 &&& (63 : Int32)) = (32 : Int32) := Int32.toInt_inj.mp (c.trans (by decide))
        refine g_tsIn 1523 hC (32 : Int32) c dL_law_33 (by decide) (by decide) rfl (by decide) ?_
        have hF := hF.2.2.2.2.2.2.2.2.2.2.2.2.2.2.2.2.2.2.2.2.2.2.2.2.2.2.2.2.2.2.2.2.2.1 c
        refine g_aload_n 1524 hC dL_law_1523 rfl 1 rfl rfl ?_
        refine g_aload_n 1525 hC dL_law_1524 rfl 0 rfl rfl ?_
        refine g_iload_n 1526 hC dL_law_1525 rfl 3 rfl rfl ?_
        refine g_iconst 1527 hC (1 : Int32) dL_law_1526 (by decide) rfl ?_
        refine g_iadd 1528 hC dL_law_1527 rfl ?_
        refine g_iald 1529 hC hF dL_law_1528 rfl (fun x_341 hF => ?_)
        obtain ⟨c_344, s_345, hu, hF⟩ := hF
        refine g_cV (rest := []) wl_L_153 hd_X0_every (ci := 0) rfl 1532 hC hF.1 (met_X0_every hF.2) rfl ⟨Nat.le_of_ble_eq_true rfl, Nat.le_of_ble_eq_true rfl⟩ hu rfl (Nat.le_of_ble_eq_true rfl) dL_law_1529 rfl (g_ty_i (u + c_344) (v + s_345) (Nat.le_refl _) (Nat.le_refl _) (fun x_343 M_342 hF => ?_))
        refine g_aload_n 1533 hC dL_law_1532 rfl 2 rfl rfl ?_
        refine g_aload_n 1534 hC dL_law_1533 rfl 0 rfl rfl ?_
        refine g_iload_n 1535 hC dL_law_1534 rfl 3 rfl rfl ?_
        refine g_iconst 1536 hC (1 : Int32) dL_law_1535 (by decide) rfl ?_
        refine g_iadd 1537 hC dL_law_1536 rfl ?_
        refine g_iald 1538 hC hF dL_law_1537 rfl (fun x_346 hF => ?_)
        refine g_cV (rest := [_]) wl_L_156 hd_X3_every (ci := 3) rfl 1541 hC hF.1 (met_X3_every hF.2) rfl ⟨Nat.le_of_ble_eq_true rfl, Nat.le_of_ble_eq_true rfl⟩ hu rfl (Nat.le_of_ble_eq_true rfl) dL_law_1538 rfl (g_ty_i (u + c_344) (v + s_345) (Nat.le_refl _) (Nat.le_refl _) (fun x_348 M_347 hF => ?_))
        refine g_icmp_eq 1544 1950 hC dL_law_1541 (by decide) rfl (fun c => ?_) (fun c => ?_)
        · have hF := hF.1 c
          exact w_L_law_b1950 hC _ _ _ _ _ hK18 _ _ hu _ hF
        · have hF := hF.2 c
          refine g_iconst 1545 hC (0 : Int32) dL_law_1544 (by decide) rfl ?_
          exact g_zreturn hC ⟨_, rfl, hF⟩ (Or.inl rfl) dL_law_1545 hu.1 hu.2
      · have c : (x_2 &&& (63 : Int32)) = (33 : Int32) := Int32.toInt_inj.mp (c.trans (by decide))
        refine g_tsIn 1546 hC (33 : Int32) c dL_law_33 (by decide) (by decide) rfl (by decide) ?_
        have hF := hF.2.2.2.2.2.2.2.2.2.2.2.2.2.2.2.2.2.2.2.2.2.2.2.2.2.2.2.2.2.2.2.2.2.2.1 c
        refine g_aload_n 1547 hC dL_law_1546 rfl 1 rfl rfl ?_
        refine g_aload_n 1548 hC dL_law_1547 rfl 0 rfl rfl ?_
        refine g_iload_n 1549 hC dL_law_1548 rfl 3 rfl rfl ?_
        refine g_iconst 1550 hC (1 : Int32) dL_law_1549 (by decide) rfl ?_
        refine g_iadd 1551 hC dL_law_1550 rfl ?_
        refine g_iald 1552 hC hF dL_law_1551 rfl (fun x_349 hF => ?_)
        refine g_aload_n 1553 hC dL_law_1552 rfl 0 rfl rfl ?_
        refine g_iload_n 1554 hC dL_law_1553 rfl 3 rfl rfl ?_
        refine g_iconst 1555 hC (2 : Int32) dL_law_1554 (by decide) rfl ?_
        refine g_iadd 1556 hC dL_law_1555 rfl ?_
        refine g_iald 1557 hC hF dL_law_1556 rfl (fun x_350 hF => ?_)
        obtain ⟨c_353, s_354, hu, hF⟩ := hF
        refine g_cV (rest := []) wl_L_157 hd_X0_promise (ci := 0) rfl 1560 hC hF.1 (met_X0_promise hF.2) rfl ⟨Nat.le_of_ble_eq_true rfl, Nat.le_of_ble_eq_true rfl⟩ hu rfl (Nat.le_of_ble_eq_true rfl) dL_law_1557 rfl (g_ty_j (u + c_353) (v + s_354) (Nat.le_refl _) (Nat.le_refl _) (fun j_352 M_351 hF => ?_))
        refine g_aload_n 1561 hC dL_law_1560 rfl 2 rfl rfl ?_
        refine g_aload_n 1562 hC dL_law_1561 rfl 0 rfl rfl ?_
        refine g_iload_n 1563 hC dL_law_1562 rfl 3 rfl rfl ?_
        refine g_iconst 1564 hC (1 : Int32) dL_law_1563 (by decide) rfl ?_
        refine g_iadd 1565 hC dL_law_1564 rfl ?_
        refine g_iald 1566 hC hF dL_law_1565 rfl (fun x_355 hF => ?_)
        refine g_aload_n 1567 hC dL_law_1566 rfl 0 rfl rfl ?_
        refine g_iload_n 1568 hC dL_law_1567 rfl 3 rfl rfl ?_
        refine g_iconst 1569 hC (2 : Int32) dL_law_1568 (by decide) rfl ?_
        refine g_iadd 1570 hC dL_law_1569 rfl ?_
        refine g_iald 1571 hC hF dL_law_1570 rfl (fun x_356 hF => ?_)
        refine g_cV (rest := [_]) wl_L_160 hd_X3_promise (ci := 3) rfl 1574 hC hF.1 (met_X3_promise hF.2) rfl ⟨Nat.le_of_ble_eq_true rfl, Nat.le_of_ble_eq_true rfl⟩ hu rfl (Nat.le_of_ble_eq_true rfl) dL_law_1571 rfl (g_ty_j (u + c_353) (v + s_354) (Nat.le_refl _) (Nat.le_refl _) (fun j_358 M_357 hF => ?_))
        refine g_lcmp_eq 1578 1950 hC dL_law_1574 rfl dL_law_1575 (by decide) rfl (fun c => ?_) (fun c => ?_)
        · have hF := hF.1 c
          exact w_L_law_b1950 hC _ _ _ _ _ hK18 _ _ hu _ hF
        · have hF := hF.2 c
          refine g_iconst 1579 hC (0 : Int32) dL_law_1578 (by decide) rfl ?_
          exact g_zreturn hC ⟨_, rfl, hF⟩ (Or.inl rfl) dL_law_1579 hu.1 hu.2
      · have c : (x_2 &&& (63 : Int32)) = (34 : Int32) := Int32.toInt_inj.mp (c.trans (by decide))
        refine g_tsIn 1580 hC (34 : Int32) c dL_law_33 (by decide) (by decide) rfl (by decide) ?_
        have hF := hF.2.2.2.2.2.2.2.2.2.2.2.2.2.2.2.2.2.2.2.2.2.2.2.2.2.2.2.2.2.2.2.2.2.2.2.1 c
        refine g_aload_n 1581 hC dL_law_1580 rfl 1 rfl rfl ?_
        refine g_aload_n 1582 hC dL_law_1581 rfl 0 rfl rfl ?_
        refine g_iload_n 1583 hC dL_law_1582 rfl 3 rfl rfl ?_
        refine g_iconst 1584 hC (1 : Int32) dL_law_1583 (by decide) rfl ?_
        refine g_iadd 1585 hC dL_law_1584 rfl ?_
        refine g_iald 1586 hC hF dL_law_1585 rfl (fun x_359 hF => ?_)
        refine g_aload_n 1587 hC dL_law_1586 rfl 0 rfl rfl ?_
        refine g_iload_n 1588 hC dL_law_1587 rfl 3 rfl rfl ?_
        refine g_iconst 1589 hC (2 : Int32) dL_law_1588 (by decide) rfl ?_
        refine g_iadd 1590 hC dL_law_1589 rfl ?_
        refine g_iald 1591 hC hF dL_law_1590 rfl (fun x_360 hF => ?_)
        obtain ⟨c_363, s_364, hu, hF⟩ := hF
        refine g_cV (rest := []) wl_L_161 hd_X0_shape (ci := 0) rfl 1594 hC hF.1 (met_X0_shape hF.2) rfl ⟨Nat.le_of_ble_eq_true rfl, Nat.le_of_ble_eq_true rfl⟩ hu rfl (Nat.le_of_ble_eq_true rfl) dL_law_1591 rfl (g_ty_i (u + c_363) (v + s_364) (Nat.le_refl _) (Nat.le_refl _) (fun x_362 M_361 hF => ?_))
        refine g_aload_n 1595 hC dL_law_1594 rfl 2 rfl rfl ?_
        refine g_aload_n 1596 hC dL_law_1595 rfl 0 rfl rfl ?_
        refine g_iload_n 1597 hC dL_law_1596 rfl 3 rfl rfl ?_
        refine g_iconst 1598 hC (1 : Int32) dL_law_1597 (by decide) rfl ?_
        refine g_iadd 1599 hC dL_law_1598 rfl ?_
        refine g_iald 1600 hC hF dL_law_1599 rfl (fun x_365 hF => ?_)
        refine g_aload_n 1601 hC dL_law_1600 rfl 0 rfl rfl ?_
        refine g_iload_n 1602 hC dL_law_1601 rfl 3 rfl rfl ?_
        refine g_iconst 1603 hC (2 : Int32) dL_law_1602 (by decide) rfl ?_
        refine g_iadd 1604 hC dL_law_1603 rfl ?_
        refine g_iald 1605 hC hF dL_law_1604 rfl (fun x_366 hF => ?_)
        refine g_cV (rest := [_]) wl_L_164 hd_X3_shape (ci := 3) rfl 1608 hC hF.1 (met_X3_shape hF.2) rfl ⟨Nat.le_of_ble_eq_true rfl, Nat.le_of_ble_eq_true rfl⟩ hu rfl (Nat.le_of_ble_eq_true rfl) dL_law_1605 rfl (g_ty_i (u + c_363) (v + s_364) (Nat.le_refl _) (Nat.le_refl _) (fun x_368 M_367 hF => ?_))
        refine g_icmp_eq 1611 1950 hC dL_law_1608 (by decide) rfl (fun c => ?_) (fun c => ?_)
        · have hF := hF.1 c
          exact w_L_law_b1950 hC _ _ _ _ _ hK18 _ _ hu _ hF
        · have hF := hF.2 c
          refine g_iconst 1612 hC (0 : Int32) dL_law_1611 (by decide) rfl ?_
          exact g_zreturn hC ⟨_, rfl, hF⟩ (Or.inl rfl) dL_law_1612 hu.1 hu.2
      · have c : (x_2 &&& (63 : Int32)) = (35 : Int32) := Int32.toInt_inj.mp (c.trans (by decide))
        refine g_tsIn 1613 hC (35 : Int32) c dL_law_33 (by decide) (by decide) rfl (by decide) ?_
        have hF := hF.2.2.2.2.2.2.2.2.2.2.2.2.2.2.2.2.2.2.2.2.2.2.2.2.2.2.2.2.2.2.2.2.2.2.2.2.1 c
        refine g_aload_n 1614 hC dL_law_1613 rfl 1 rfl rfl ?_
        refine g_aload_n 1615 hC dL_law_1614 rfl 0 rfl rfl ?_
        refine g_iload_n 1616 hC dL_law_1615 rfl 3 rfl rfl ?_
        refine g_iconst 1617 hC (1 : Int32) dL_law_1616 (by decide) rfl ?_
        refine g_iadd 1618 hC dL_law_1617 rfl ?_
        refine g_iald 1619 hC hF dL_law_1618 rfl (fun x_369 hF => ?_)
        refine g_aload_n 1620 hC dL_law_1619 rfl 0 rfl rfl ?_
        refine g_iload_n 1621 hC dL_law_1620 rfl 3 rfl rfl ?_
        refine g_iconst 1622 hC (2 : Int32) dL_law_1621 (by decide) rfl ?_
        refine g_iadd 1623 hC dL_law_1622 rfl ?_
        refine g_iald 1624 hC hF dL_law_1623 rfl (fun x_370 hF => ?_)
        obtain ⟨c_373, s_374, hu, hF⟩ := hF
        refine g_cV (rest := []) wl_L_165 hd_X0_odd_2 (ci := 0) rfl 1627 hC hF.1 (met_X0_odd_2 hF.2) rfl ⟨Nat.le_of_ble_eq_true rfl, Nat.le_of_ble_eq_true rfl⟩ hu rfl (Nat.le_of_ble_eq_true rfl) dL_law_1624 rfl (g_ty_i (u + c_373) (v + s_374) (Nat.le_refl _) (Nat.le_refl _) (fun x_372 M_371 hF => ?_))
        refine g_aload_n 1628 hC dL_law_1627 rfl 2 rfl rfl ?_
        refine g_aload_n 1629 hC dL_law_1628 rfl 0 rfl rfl ?_
        refine g_iload_n 1630 hC dL_law_1629 rfl 3 rfl rfl ?_
        refine g_iconst 1631 hC (1 : Int32) dL_law_1630 (by decide) rfl ?_
        refine g_iadd 1632 hC dL_law_1631 rfl ?_
        refine g_iald 1633 hC hF dL_law_1632 rfl (fun x_375 hF => ?_)
        refine g_aload_n 1634 hC dL_law_1633 rfl 0 rfl rfl ?_
        refine g_iload_n 1635 hC dL_law_1634 rfl 3 rfl rfl ?_
        refine g_iconst 1636 hC (2 : Int32) dL_law_1635 (by decide) rfl ?_
        refine g_iadd 1637 hC dL_law_1636 rfl ?_
        refine g_iald 1638 hC hF dL_law_1637 rfl (fun x_376 hF => ?_)
        refine g_cV (rest := [_]) wl_L_168 hd_X3_odd (ci := 3) rfl 1641 hC hF.1 (met_X3_odd hF.2) rfl ⟨Nat.le_of_ble_eq_true rfl, Nat.le_of_ble_eq_true rfl⟩ hu rfl (Nat.le_of_ble_eq_true rfl) dL_law_1638 rfl (g_ty_i (u + c_373) (v + s_374) (Nat.le_refl _) (Nat.le_refl _) (fun x_378 M_377 hF => ?_))
        refine g_icmp_eq 1644 1950 hC dL_law_1641 (by decide) rfl (fun c => ?_) (fun c => ?_)
        · have hF := hF.1 c
          exact w_L_law_b1950 hC _ _ _ _ _ hK18 _ _ hu _ hF
        · have hF := hF.2 c
          refine g_iconst 1645 hC (0 : Int32) dL_law_1644 (by decide) rfl ?_
          exact g_zreturn hC ⟨_, rfl, hF⟩ (Or.inl rfl) dL_law_1645 hu.1 hu.2
      · have c : (x_2 &&& (63 : Int32)) = (36 : Int32) := Int32.toInt_inj.mp (c.trans (by decide))
        refine g_tsIn 1646 hC (36 : Int32) c dL_law_33 (by decide) (by decide) rfl (by decide) ?_
        have hF := hF.2.2.2.2.2.2.2.2.2.2.2.2.2.2.2.2.2.2.2.2.2.2.2.2.2.2.2.2.2.2.2.2.2.2.2.2.2.1 c
        refine g_aload_n 1647 hC dL_law_1646 rfl 1 rfl rfl ?_
        refine g_aload_n 1648 hC dL_law_1647 rfl 0 rfl rfl ?_
        refine g_iload_n 1649 hC dL_law_1648 rfl 3 rfl rfl ?_
        refine g_iconst 1650 hC (1 : Int32) dL_law_1649 (by decide) rfl ?_
        refine g_iadd 1651 hC dL_law_1650 rfl ?_
        refine g_iald 1652 hC hF dL_law_1651 rfl (fun x_379 hF => ?_)
        refine g_aload_n 1653 hC dL_law_1652 rfl 0 rfl rfl ?_
        refine g_iload_n 1654 hC dL_law_1653 rfl 3 rfl rfl ?_
        refine g_iconst 1655 hC (2 : Int32) dL_law_1654 (by decide) rfl ?_
        refine g_iadd 1656 hC dL_law_1655 rfl ?_
        refine g_iald 1657 hC hF dL_law_1656 rfl (fun x_380 hF => ?_)
        refine g_aload_n 1658 hC dL_law_1657 rfl 0 rfl rfl ?_
        refine g_iload_n 1659 hC dL_law_1658 rfl 3 rfl rfl ?_
        refine g_iconst 1660 hC (3 : Int32) dL_law_1659 (by decide) rfl ?_
        refine g_iadd 1661 hC dL_law_1660 rfl ?_
        refine g_iald 1662 hC hF dL_law_1661 rfl (fun x_381 hF => ?_)
        obtain ⟨c_384, s_385, hu, hF⟩ := hF
        refine g_xVW (rest := []) wl_L_169 hd_X0_judge (ci := 0) rfl 1665 hC hF.1 (met_X0_judge hF.2) rfl ⟨Nat.le_of_ble_eq_true rfl, Nat.le_of_ble_eq_true rfl⟩ hu rfl (Nat.le_of_ble_eq_true rfl) dL_law_1662 rfl (g_ty_i (u + c_384) (v + s_385) (Nat.le_refl _) (Nat.le_refl _) (fun x_383 M_382 hF => ?_)) (fun _ _ _ h => h.elim)
        refine g_aload_n 1666 hC dL_law_1665 rfl 2 rfl rfl ?_
        refine g_aload_n 1667 hC dL_law_1666 rfl 0 rfl rfl ?_
        refine g_iload_n 1668 hC dL_law_1667 rfl 3 rfl rfl ?_
        refine g_iconst 1669 hC (1 : Int32) dL_law_1668 (by decide) rfl ?_
        refine g_iadd 1670 hC dL_law_1669 rfl ?_
        refine g_iald 1671 hC hF dL_law_1670 rfl (fun x_386 hF => ?_)
        refine g_aload_n 1672 hC dL_law_1671 rfl 0 rfl rfl ?_
        refine g_iload_n 1673 hC dL_law_1672 rfl 3 rfl rfl ?_
        refine g_iconst 1674 hC (2 : Int32) dL_law_1673 (by decide) rfl ?_
        refine g_iadd 1675 hC dL_law_1674 rfl ?_
        refine g_iald 1676 hC hF dL_law_1675 rfl (fun x_387 hF => ?_)
        refine g_aload_n 1677 hC dL_law_1676 rfl 0 rfl rfl ?_
        refine g_iload_n 1678 hC dL_law_1677 rfl 3 rfl rfl ?_
        refine g_iconst 1679 hC (3 : Int32) dL_law_1678 (by decide) rfl ?_
        refine g_iadd 1680 hC dL_law_1679 rfl ?_
        refine g_iald 1681 hC hF dL_law_1680 rfl (fun x_388 hF => ?_)
        refine g_cV (rest := [_]) wl_L_172 hd_X3_judge (ci := 3) rfl 1684 hC hF.1 (met_X3_judge hF.2) rfl ⟨Nat.le_of_ble_eq_true rfl, Nat.le_of_ble_eq_true rfl⟩ hu rfl (Nat.le_of_ble_eq_true rfl) dL_law_1681 rfl (g_ty_i (u + c_384) (v + s_385) (Nat.le_refl _) (Nat.le_refl _) (fun x_390 M_389 hF => ?_))
        refine g_icmp_eq 1687 1950 hC dL_law_1684 (by decide) rfl (fun c => ?_) (fun c => ?_)
        · have hF := hF.1 c
          exact w_L_law_b1950 hC _ _ _ _ _ hK18 _ _ hu _ hF
        · have hF := hF.2 c
          refine g_iconst 1688 hC (0 : Int32) dL_law_1687 (by decide) rfl ?_
          exact g_zreturn hC ⟨_, rfl, hF⟩ (Or.inl rfl) dL_law_1688 hu.1 hu.2
      · have c : (x_2 &&& (63 : Int32)) = (37 : Int32) := Int32.toInt_inj.mp (c.trans (by decide))
        refine g_tsIn 1689 hC (37 : Int32) c dL_law_33 (by decide) (by decide) rfl (by decide) ?_
        have hF := hF.2.2.2.2.2.2.2.2.2.2.2.2.2.2.2.2.2.2.2.2.2.2.2.2.2.2.2.2.2.2.2.2.2.2.2.2.2.2.1 c
        refine g_aload_n 1690 hC dL_law_1689 rfl 1 rfl rfl ?_
        refine g_aload_n 1691 hC dL_law_1690 rfl 0 rfl rfl ?_
        refine g_iload_n 1692 hC dL_law_1691 rfl 3 rfl rfl ?_
        refine g_iconst 1693 hC (1 : Int32) dL_law_1692 (by decide) rfl ?_
        refine g_iadd 1694 hC dL_law_1693 rfl ?_
        refine g_iald 1695 hC hF dL_law_1694 rfl (fun x_391 hF => ?_)
        refine g_aload_n 1696 hC dL_law_1695 rfl 0 rfl rfl ?_
        refine g_iload_n 1697 hC dL_law_1696 rfl 3 rfl rfl ?_
        refine g_iconst 1698 hC (2 : Int32) dL_law_1697 (by decide) rfl ?_
        refine g_iadd 1699 hC dL_law_1698 rfl ?_
        refine g_iald 1700 hC hF dL_law_1699 rfl (fun x_392 hF => ?_)
        obtain ⟨c_395, s_396, hu, hF⟩ := hF
        refine g_xVW (rest := []) wl_L_173 hd_X0_join (ci := 0) rfl 1703 hC hF.1 (met_X0_join hF.2) rfl ⟨Nat.le_of_ble_eq_true rfl, Nat.le_of_ble_eq_true rfl⟩ hu rfl (Nat.le_of_ble_eq_true rfl) dL_law_1700 rfl (g_ty_i (u + c_395) (v + s_396) (Nat.le_refl _) (Nat.le_refl _) (fun x_394 M_393 hF => ?_)) (fun _ _ _ h => h.elim)
        refine g_aload_n 1704 hC dL_law_1703 rfl 2 rfl rfl ?_
        refine g_aload_n 1705 hC dL_law_1704 rfl 0 rfl rfl ?_
        refine g_iload_n 1706 hC dL_law_1705 rfl 3 rfl rfl ?_
        refine g_iconst 1707 hC (1 : Int32) dL_law_1706 (by decide) rfl ?_
        refine g_iadd 1708 hC dL_law_1707 rfl ?_
        refine g_iald 1709 hC hF dL_law_1708 rfl (fun x_397 hF => ?_)
        refine g_aload_n 1710 hC dL_law_1709 rfl 0 rfl rfl ?_
        refine g_iload_n 1711 hC dL_law_1710 rfl 3 rfl rfl ?_
        refine g_iconst 1712 hC (2 : Int32) dL_law_1711 (by decide) rfl ?_
        refine g_iadd 1713 hC dL_law_1712 rfl ?_
        refine g_iald 1714 hC hF dL_law_1713 rfl (fun x_398 hF => ?_)
        refine g_cV (rest := [_]) wl_L_176 hd_X3_join (ci := 3) rfl 1717 hC hF.1 (met_X3_join hF.2) rfl ⟨Nat.le_of_ble_eq_true rfl, Nat.le_of_ble_eq_true rfl⟩ hu rfl (Nat.le_of_ble_eq_true rfl) dL_law_1714 rfl (g_ty_i (u + c_395) (v + s_396) (Nat.le_refl _) (Nat.le_refl _) (fun x_400 M_399 hF => ?_))
        refine g_icmp_eq 1720 1950 hC dL_law_1717 (by decide) rfl (fun c => ?_) (fun c => ?_)
        · have hF := hF.1 c
          exact w_L_law_b1950 hC _ _ _ _ _ hK18 _ _ hu _ hF
        · have hF := hF.2 c
          refine g_iconst 1721 hC (0 : Int32) dL_law_1720 (by decide) rfl ?_
          exact g_zreturn hC ⟨_, rfl, hF⟩ (Or.inl rfl) dL_law_1721 hu.1 hu.2
      · have c : (x_2 &&& (63 : Int32)) = (38 : Int32) := Int32.toInt_inj.mp (c.trans (by decide))
        refine g_tsIn 1722 hC (38 : Int32) c dL_law_33 (by decide) (by decide) rfl (by decide) ?_
        have hF := hF.2.2.2.2.2.2.2.2.2.2.2.2.2.2.2.2.2.2.2.2.2.2.2.2.2.2.2.2.2.2.2.2.2.2.2.2.2.2.2.1 c
        refine g_aload_n 1723 hC dL_law_1722 rfl 1 rfl rfl ?_
        refine g_aload_n 1724 hC dL_law_1723 rfl 0 rfl rfl ?_
        refine g_iload_n 1725 hC dL_law_1724 rfl 3 rfl rfl ?_
        refine g_iconst 1726 hC (1 : Int32) dL_law_1725 (by decide) rfl ?_
        refine g_iadd 1727 hC dL_law_1726 rfl ?_
        refine g_iald 1728 hC hF dL_law_1727 rfl (fun x_401 hF => ?_)
        refine g_aload_n 1729 hC dL_law_1728 rfl 0 rfl rfl ?_
        refine g_iload_n 1730 hC dL_law_1729 rfl 3 rfl rfl ?_
        refine g_iconst 1731 hC (2 : Int32) dL_law_1730 (by decide) rfl ?_
        refine g_iadd 1732 hC dL_law_1731 rfl ?_
        refine g_iald 1733 hC hF dL_law_1732 rfl (fun x_402 hF => ?_)
        obtain ⟨c_405, s_406, hu, hF⟩ := hF
        refine g_xVW (rest := []) wl_L_177 hd_X0_saved (ci := 0) rfl 1736 hC hF.1 (met_X0_saved hF.2) rfl ⟨Nat.le_of_ble_eq_true rfl, Nat.le_of_ble_eq_true rfl⟩ hu rfl (Nat.le_of_ble_eq_true rfl) dL_law_1733 rfl (g_ty_j (u + c_405) (v + s_406) (Nat.le_refl _) (Nat.le_refl _) (fun j_404 M_403 hF => ?_)) (fun _ _ _ h => h.elim)
        refine g_aload_n 1737 hC dL_law_1736 rfl 2 rfl rfl ?_
        refine g_aload_n 1738 hC dL_law_1737 rfl 0 rfl rfl ?_
        refine g_iload_n 1739 hC dL_law_1738 rfl 3 rfl rfl ?_
        refine g_iconst 1740 hC (1 : Int32) dL_law_1739 (by decide) rfl ?_
        refine g_iadd 1741 hC dL_law_1740 rfl ?_
        refine g_iald 1742 hC hF dL_law_1741 rfl (fun x_407 hF => ?_)
        refine g_aload_n 1743 hC dL_law_1742 rfl 0 rfl rfl ?_
        refine g_iload_n 1744 hC dL_law_1743 rfl 3 rfl rfl ?_
        refine g_iconst 1745 hC (2 : Int32) dL_law_1744 (by decide) rfl ?_
        refine g_iadd 1746 hC dL_law_1745 rfl ?_
        refine g_iald 1747 hC hF dL_law_1746 rfl (fun x_408 hF => ?_)
        refine g_cV (rest := [_]) wl_L_180 hd_X3_saved (ci := 3) rfl 1750 hC hF.1 (met_X3_saved hF.2) rfl ⟨Nat.le_of_ble_eq_true rfl, Nat.le_of_ble_eq_true rfl⟩ hu rfl (Nat.le_of_ble_eq_true rfl) dL_law_1747 rfl (g_ty_j (u + c_405) (v + s_406) (Nat.le_refl _) (Nat.le_refl _) (fun j_410 M_409 hF => ?_))
        refine g_lcmp_eq 1754 1950 hC dL_law_1750 rfl dL_law_1751 (by decide) rfl (fun c => ?_) (fun c => ?_)
        · have hF := hF.1 c
          exact w_L_law_b1950 hC _ _ _ _ _ hK18 _ _ hu _ hF
        · have hF := hF.2 c
          refine g_iconst 1755 hC (0 : Int32) dL_law_1754 (by decide) rfl ?_
          exact g_zreturn hC ⟨_, rfl, hF⟩ (Or.inl rfl) dL_law_1755 hu.1 hu.2
      · have c : (x_2 &&& (63 : Int32)) = (39 : Int32) := Int32.toInt_inj.mp (c.trans (by decide))
        refine g_tsIn 1756 hC (39 : Int32) c dL_law_33 (by decide) (by decide) rfl (by decide) ?_
        have hF := hF.2.2.2.2.2.2.2.2.2.2.2.2.2.2.2.2.2.2.2.2.2.2.2.2.2.2.2.2.2.2.2.2.2.2.2.2.2.2.2.2.1 c
        refine g_aload_n 1757 hC dL_law_1756 rfl 1 rfl rfl ?_
        refine g_aload_n 1758 hC dL_law_1757 rfl 0 rfl rfl ?_
        refine g_iload_n 1759 hC dL_law_1758 rfl 3 rfl rfl ?_
        refine g_iconst 1760 hC (1 : Int32) dL_law_1759 (by decide) rfl ?_
        refine g_iadd 1761 hC dL_law_1760 rfl ?_
        refine g_iald 1762 hC hF dL_law_1761 rfl (fun x_411 hF => ?_)
        refine g_cV (rest := []) wl_L_181 hd_X0_seed (ci := 0) rfl 1765 hC hF.1 (met_X0_seed hF.2) rfl ⟨Nat.le_of_ble_eq_true rfl, Nat.le_of_ble_eq_true rfl⟩ hu rfl (Nat.le_of_ble_eq_true rfl) dL_law_1762 rfl (g_ty_i u v (Nat.le_refl _) (Nat.le_refl _) (fun x_413 M_412 hF => ?_))
        refine g_aload_n 1766 hC dL_law_1765 rfl 2 rfl rfl ?_
        refine g_aload_n 1767 hC dL_law_1766 rfl 0 rfl rfl ?_
        refine g_iload_n 1768 hC dL_law_1767 rfl 3 rfl rfl ?_
        refine g_iconst 1769 hC (1 : Int32) dL_law_1768 (by decide) rfl ?_
        refine g_iadd 1770 hC dL_law_1769 rfl ?_
        refine g_iald 1771 hC hF dL_law_1770 rfl (fun x_414 hF => ?_)
        refine g_cV (rest := [_]) wl_L_184 hd_X3_seed (ci := 3) rfl 1774 hC hF.1 (met_X3_seed hF.2) rfl ⟨Nat.le_of_ble_eq_true rfl, Nat.le_of_ble_eq_true rfl⟩ hu rfl (Nat.le_of_ble_eq_true rfl) dL_law_1771 rfl (g_ty_i u v (Nat.le_refl _) (Nat.le_refl _) (fun x_416 M_415 hF => ?_))
        refine g_icmp_eq 1777 1950 hC dL_law_1774 (by decide) rfl (fun c => ?_) (fun c => ?_)
        · have hF := hF.1 c
          exact w_L_law_b1950 hC _ _ _ _ _ hK18 _ _ hu _ hF
        · have hF := hF.2 c
          refine g_iconst 1778 hC (0 : Int32) dL_law_1777 (by decide) rfl ?_
          exact g_zreturn hC ⟨_, rfl, hF⟩ (Or.inl rfl) dL_law_1778 hu.1 hu.2
      · have c : (x_2 &&& (63 : Int32)) = (40 : Int32) := Int32.toInt_inj.mp (c.trans (by decide))
        refine g_tsIn 1779 hC (40 : Int32) c dL_law_33 (by decide) (by decide) rfl (by decide) ?_
        have hF := hF.2.2.2.2.2.2.2.2.2.2.2.2.2.2.2.2.2.2.2.2.2.2.2.2.2.2.2.2.2.2.2.2.2.2.2.2.2.2.2.2.2.1 c
        refine g_aload_n 1780 hC dL_law_1779 rfl 1 rfl rfl ?_
        refine g_aload_n 1781 hC dL_law_1780 rfl 0 rfl rfl ?_
        refine g_iload_n 1782 hC dL_law_1781 rfl 3 rfl rfl ?_
        refine g_iconst 1783 hC (1 : Int32) dL_law_1782 (by decide) rfl ?_
        refine g_iadd 1784 hC dL_law_1783 rfl ?_
        refine g_iald 1785 hC hF dL_law_1784 rfl (fun x_417 hF => ?_)
        refine g_aload_n 1786 hC dL_law_1785 rfl 0 rfl rfl ?_
        refine g_iload_n 1787 hC dL_law_1786 rfl 3 rfl rfl ?_
        refine g_iconst 1788 hC (2 : Int32) dL_law_1787 (by decide) rfl ?_
        refine g_iadd 1789 hC dL_law_1788 rfl ?_
        refine g_iald 1790 hC hF dL_law_1789 rfl (fun x_418 hF => ?_)
        obtain ⟨c_421, s_422, hu, hF⟩ := hF
        refine g_xVW (rest := []) wl_L_185 hd_X0_begin (ci := 0) rfl 1793 hC hF.1 (met_X0_begin hF.2) rfl ⟨Nat.le_of_ble_eq_true rfl, Nat.le_of_ble_eq_true rfl⟩ hu rfl (Nat.le_of_ble_eq_true rfl) dL_law_1790 rfl (g_ty_i (u + c_421) (v + s_422) (Nat.le_refl _) (Nat.le_refl _) (fun x_420 M_419 hF => ?_)) (fun _ _ _ h => h.elim)
        refine g_aload_n 1794 hC dL_law_1793 rfl 2 rfl rfl ?_
        refine g_aload_n 1795 hC dL_law_1794 rfl 0 rfl rfl ?_
        refine g_iload_n 1796 hC dL_law_1795 rfl 3 rfl rfl ?_
        refine g_iconst 1797 hC (1 : Int32) dL_law_1796 (by decide) rfl ?_
        refine g_iadd 1798 hC dL_law_1797 rfl ?_
        refine g_iald 1799 hC hF dL_law_1798 rfl (fun x_423 hF => ?_)
        refine g_aload_n 1800 hC dL_law_1799 rfl 0 rfl rfl ?_
        refine g_iload_n 1801 hC dL_law_1800 rfl 3 rfl rfl ?_
        refine g_iconst 1802 hC (2 : Int32) dL_law_1801 (by decide) rfl ?_
        refine g_iadd 1803 hC dL_law_1802 rfl ?_
        refine g_iald 1804 hC hF dL_law_1803 rfl (fun x_424 hF => ?_)
        refine g_cV (rest := [_]) wl_L_188 hd_X3_begin (ci := 3) rfl 1807 hC hF.1 (met_X3_begin hF.2) rfl ⟨Nat.le_of_ble_eq_true rfl, Nat.le_of_ble_eq_true rfl⟩ hu rfl (Nat.le_of_ble_eq_true rfl) dL_law_1804 rfl (g_ty_i (u + c_421) (v + s_422) (Nat.le_refl _) (Nat.le_refl _) (fun x_426 M_425 hF => ?_))
        refine g_icmp_eq 1810 1950 hC dL_law_1807 (by decide) rfl (fun c => ?_) (fun c => ?_)
        · have hF := hF.1 c
          exact w_L_law_b1950 hC _ _ _ _ _ hK18 _ _ hu _ hF
        · have hF := hF.2 c
          refine g_iconst 1811 hC (0 : Int32) dL_law_1810 (by decide) rfl ?_
          exact g_zreturn hC ⟨_, rfl, hF⟩ (Or.inl rfl) dL_law_1811 hu.1 hu.2
      · have c : (x_2 &&& (63 : Int32)) = (41 : Int32) := Int32.toInt_inj.mp (c.trans (by decide))
        refine g_tsIn 1812 hC (41 : Int32) c dL_law_33 (by decide) (by decide) rfl (by decide) ?_
        have hF := hF.2.2.2.2.2.2.2.2.2.2.2.2.2.2.2.2.2.2.2.2.2.2.2.2.2.2.2.2.2.2.2.2.2.2.2.2.2.2.2.2.2.2.1 c
        refine g_aload_n 1813 hC dL_law_1812 rfl 1 rfl rfl ?_
        refine g_aload_n 1814 hC dL_law_1813 rfl 0 rfl rfl ?_
        refine g_iload_n 1815 hC dL_law_1814 rfl 3 rfl rfl ?_
        refine g_iconst 1816 hC (1 : Int32) dL_law_1815 (by decide) rfl ?_
        refine g_iadd 1817 hC dL_law_1816 rfl ?_
        refine g_iald 1818 hC hF dL_law_1817 rfl (fun x_427 hF => ?_)
        obtain ⟨c_430, s_431, hu, hF⟩ := hF
        refine g_cV (rest := []) wl_L_189 hd_X0_step (ci := 0) rfl 1821 hC hF.1 (met_X0_step hF.2) rfl ⟨Nat.le_of_ble_eq_true rfl, Nat.le_of_ble_eq_true rfl⟩ hu rfl (Nat.le_of_ble_eq_true rfl) dL_law_1818 rfl (g_ty_i (u + c_430) (v + s_431) (Nat.le_refl _) (Nat.le_refl _) (fun x_429 M_428 hF => ?_))
        refine g_aload_n 1822 hC dL_law_1821 rfl 2 rfl rfl ?_
        refine g_aload_n 1823 hC dL_law_1822 rfl 0 rfl rfl ?_
        refine g_iload_n 1824 hC dL_law_1823 rfl 3 rfl rfl ?_
        refine g_iconst 1825 hC (1 : Int32) dL_law_1824 (by decide) rfl ?_
        refine g_iadd 1826 hC dL_law_1825 rfl ?_
        refine g_iald 1827 hC hF dL_law_1826 rfl (fun x_432 hF => ?_)
        refine g_cV (rest := [_]) wl_L_192 hd_X3_step (ci := 3) rfl 1830 hC hF.1 (met_X3_step hF.2) rfl ⟨Nat.le_of_ble_eq_true rfl, Nat.le_of_ble_eq_true rfl⟩ hu rfl (Nat.le_of_ble_eq_true rfl) dL_law_1827 rfl (g_ty_i (u + c_430) (v + s_431) (Nat.le_refl _) (Nat.le_refl _) (fun x_434 M_433 hF => ?_))
        refine g_icmp_eq 1833 1950 hC dL_law_1830 (by decide) rfl (fun c => ?_) (fun c => ?_)
        · have hF := hF.1 c
          exact w_L_law_b1950 hC _ _ _ _ _ hK18 _ _ hu _ hF
        · have hF := hF.2 c
          refine g_iconst 1834 hC (0 : Int32) dL_law_1833 (by decide) rfl ?_
          exact g_zreturn hC ⟨_, rfl, hF⟩ (Or.inl rfl) dL_law_1834 hu.1 hu.2
      · have c : (x_2 &&& (63 : Int32)) = (42 : Int32) := Int32.toInt_inj.mp (c.trans (by decide))
        refine g_tsIn 1835 hC (42 : Int32) c dL_law_33 (by decide) (by decide) rfl (by decide) ?_
        have hF := hF.2.2.2.2.2.2.2.2.2.2.2.2.2.2.2.2.2.2.2.2.2.2.2.2.2.2.2.2.2.2.2.2.2.2.2.2.2.2.2.2.2.2.2.1 c
        refine g_aload_n 1836 hC dL_law_1835 rfl 1 rfl rfl ?_
        refine g_aload_n 1837 hC dL_law_1836 rfl 0 rfl rfl ?_
        refine g_iload_n 1838 hC dL_law_1837 rfl 3 rfl rfl ?_
        refine g_iconst 1839 hC (1 : Int32) dL_law_1838 (by decide) rfl ?_
        refine g_iadd 1840 hC dL_law_1839 rfl ?_
        refine g_iald 1841 hC hF dL_law_1840 rfl (fun x_435 hF => ?_)
        refine g_cV (rest := []) wl_L_193 hd_X0_week (ci := 0) rfl 1844 hC hF.1 (met_X0_week hF.2) rfl ⟨Nat.le_of_ble_eq_true rfl, Nat.le_of_ble_eq_true rfl⟩ hu rfl (Nat.le_of_ble_eq_true rfl) dL_law_1841 rfl (g_ty_i u v (Nat.le_refl _) (Nat.le_refl _) (fun x_437 M_436 hF => ?_))
        refine g_aload_n 1845 hC dL_law_1844 rfl 2 rfl rfl ?_
        refine g_aload_n 1846 hC dL_law_1845 rfl 0 rfl rfl ?_
        refine g_iload_n 1847 hC dL_law_1846 rfl 3 rfl rfl ?_
        refine g_iconst 1848 hC (1 : Int32) dL_law_1847 (by decide) rfl ?_
        refine g_iadd 1849 hC dL_law_1848 rfl ?_
        refine g_iald 1850 hC hF dL_law_1849 rfl (fun x_438 hF => ?_)
        refine g_cV (rest := [_]) wl_L_196 hd_X3_week (ci := 3) rfl 1853 hC hF.1 (met_X3_week hF.2) rfl ⟨Nat.le_of_ble_eq_true rfl, Nat.le_of_ble_eq_true rfl⟩ hu rfl (Nat.le_of_ble_eq_true rfl) dL_law_1850 rfl (g_ty_i u v (Nat.le_refl _) (Nat.le_refl _) (fun x_440 M_439 hF => ?_))
        refine g_icmp_eq 1856 1950 hC dL_law_1853 (by decide) rfl (fun c => ?_) (fun c => ?_)
        · have hF := hF.1 c
          exact w_L_law_b1950 hC _ _ _ _ _ hK18 _ _ hu _ hF
        · have hF := hF.2 c
          refine g_iconst 1857 hC (0 : Int32) dL_law_1856 (by decide) rfl ?_
          exact g_zreturn hC ⟨_, rfl, hF⟩ (Or.inl rfl) dL_law_1857 hu.1 hu.2
      · have c : (x_2 &&& (63 : Int32)) = (43 : Int32) := Int32.toInt_inj.mp (c.trans (by decide))
        refine g_tsIn 1858 hC (43 : Int32) c dL_law_33 (by decide) (by decide) rfl (by decide) ?_
        have hF := hF.2.2.2.2.2.2.2.2.2.2.2.2.2.2.2.2.2.2.2.2.2.2.2.2.2.2.2.2.2.2.2.2.2.2.2.2.2.2.2.2.2.2.2.2.1 c
        refine g_aload_n 1859 hC dL_law_1858 rfl 1 rfl rfl ?_
        refine g_aload_n 1860 hC dL_law_1859 rfl 0 rfl rfl ?_
        refine g_iload_n 1861 hC dL_law_1860 rfl 3 rfl rfl ?_
        refine g_iconst 1862 hC (1 : Int32) dL_law_1861 (by decide) rfl ?_
        refine g_iadd 1863 hC dL_law_1862 rfl ?_
        refine g_iald 1864 hC hF dL_law_1863 rfl (fun x_441 hF => ?_)
        refine g_aload_n 1865 hC dL_law_1864 rfl 0 rfl rfl ?_
        refine g_iload_n 1866 hC dL_law_1865 rfl 3 rfl rfl ?_
        refine g_iconst 1867 hC (2 : Int32) dL_law_1866 (by decide) rfl ?_
        refine g_iadd 1868 hC dL_law_1867 rfl ?_
        refine g_iald 1869 hC hF dL_law_1868 rfl (fun x_442 hF => ?_)
        refine g_aload_n 1870 hC dL_law_1869 rfl 0 rfl rfl ?_
        refine g_iload_n 1871 hC dL_law_1870 rfl 3 rfl rfl ?_
        refine g_iconst 1872 hC (3 : Int32) dL_law_1871 (by decide) rfl ?_
        refine g_iadd 1873 hC dL_law_1872 rfl ?_
        refine g_iald 1874 hC hF dL_law_1873 rfl (fun x_443 hF => ?_)
        obtain ⟨c_446, s_447, hu, hF⟩ := hF
        refine g_xVW (rest := []) wl_L_197 hd_X0_weeks (ci := 0) rfl 1877 hC hF.1 (met_X0_weeks hF.2) rfl ⟨Nat.le_of_ble_eq_true rfl, Nat.le_of_ble_eq_true rfl⟩ hu rfl (Nat.le_of_ble_eq_true rfl) dL_law_1874 rfl (g_ty_i (u + c_446) (v + s_447) (Nat.le_refl _) (Nat.le_refl _) (fun x_445 M_444 hF => ?_)) (fun _ _ _ h => h.elim)
        refine g_aload_n 1878 hC dL_law_1877 rfl 2 rfl rfl ?_
        refine g_aload_n 1879 hC dL_law_1878 rfl 0 rfl rfl ?_
        refine g_iload_n 1880 hC dL_law_1879 rfl 3 rfl rfl ?_
        refine g_iconst 1881 hC (1 : Int32) dL_law_1880 (by decide) rfl ?_
        refine g_iadd 1882 hC dL_law_1881 rfl ?_
        refine g_iald 1883 hC hF dL_law_1882 rfl (fun x_448 hF => ?_)
        refine g_aload_n 1884 hC dL_law_1883 rfl 0 rfl rfl ?_
        refine g_iload_n 1885 hC dL_law_1884 rfl 3 rfl rfl ?_
        refine g_iconst 1886 hC (2 : Int32) dL_law_1885 (by decide) rfl ?_
        refine g_iadd 1887 hC dL_law_1886 rfl ?_
        refine g_iald 1888 hC hF dL_law_1887 rfl (fun x_449 hF => ?_)
        refine g_aload_n 1889 hC dL_law_1888 rfl 0 rfl rfl ?_
        refine g_iload_n 1890 hC dL_law_1889 rfl 3 rfl rfl ?_
        refine g_iconst 1891 hC (3 : Int32) dL_law_1890 (by decide) rfl ?_
        refine g_iadd 1892 hC dL_law_1891 rfl ?_
        refine g_iald 1893 hC hF dL_law_1892 rfl (fun x_450 hF => ?_)
        refine g_cV (rest := [_]) wl_L_200 hd_X3_weeks (ci := 3) rfl 1896 hC hF.1 (met_X3_weeks hF.2) rfl ⟨Nat.le_of_ble_eq_true rfl, Nat.le_of_ble_eq_true rfl⟩ hu rfl (Nat.le_of_ble_eq_true rfl) dL_law_1893 rfl (g_ty_i (u + c_446) (v + s_447) (Nat.le_refl _) (Nat.le_refl _) (fun x_452 M_451 hF => ?_))
        refine g_icmp_eq 1899 1950 hC dL_law_1896 (by decide) rfl (fun c => ?_) (fun c => ?_)
        · have hF := hF.1 c
          exact w_L_law_b1950 hC _ _ _ _ _ hK18 _ _ hu _ hF
        · have hF := hF.2 c
          refine g_iconst 1900 hC (0 : Int32) dL_law_1899 (by decide) rfl ?_
          exact g_zreturn hC ⟨_, rfl, hF⟩ (Or.inl rfl) dL_law_1900 hu.1 hu.2
      · have c : (x_2 &&& (63 : Int32)) = (44 : Int32) := Int32.toInt_inj.mp (c.trans (by decide))
        refine g_tsIn 1901 hC (44 : Int32) c dL_law_33 (by decide) (by decide) rfl (by decide) ?_
        have hF := hF.2.2.2.2.2.2.2.2.2.2.2.2.2.2.2.2.2.2.2.2.2.2.2.2.2.2.2.2.2.2.2.2.2.2.2.2.2.2.2.2.2.2.2.2.2.1 c
        refine g_aload_n 1902 hC dL_law_1901 rfl 1 rfl rfl ?_
        obtain ⟨c_455, s_456, hu, hF⟩ := hF
        refine g_cV (rest := []) wl_L_201 hd_X0_image (ci := 0) rfl 1905 hC hF.1 (met_X0_image hF.2) rfl ⟨Nat.le_of_ble_eq_true rfl, Nat.le_of_ble_eq_true rfl⟩ hu rfl (Nat.le_of_ble_eq_true rfl) dL_law_1902 rfl (g_ty_i (u + c_455) (v + s_456) (Nat.le_refl _) (Nat.le_refl _) (fun x_454 M_453 hF => ?_))
        refine g_aload_n 1906 hC dL_law_1905 rfl 2 rfl rfl ?_
        obtain ⟨c_459, s_460, hu, hF⟩ := hF
        refine g_cV (rest := [_]) wl_L_204 hd_X3_image (ci := 3) rfl 1909 hC hF.1 (met_X3_image hF.2) rfl ⟨Nat.le_of_ble_eq_true rfl, Nat.le_of_ble_eq_true rfl⟩ hu rfl (Nat.le_of_ble_eq_true rfl) dL_law_1906 rfl (g_ty_i ((u + c_455) + c_459) ((v + s_456) + s_460) (Nat.le_refl _) (Nat.le_refl _) (fun x_458 M_457 hF => ?_))
        refine g_icmp_eq 1912 1950 hC dL_law_1909 (by decide) rfl (fun c => ?_) (fun c => ?_)
        · have hF := hF.1 c
          exact w_L_law_b1950 hC _ _ _ _ _ hK18 _ _ hu _ hF
        · have hF := hF.2 c
          refine g_iconst 1913 hC (0 : Int32) dL_law_1912 (by decide) rfl ?_
          exact g_zreturn hC ⟨_, rfl, hF⟩ (Or.inl rfl) dL_law_1913 hu.1 hu.2
      · have c : (x_2 &&& (63 : Int32)) = (45 : Int32) := Int32.toInt_inj.mp (c.trans (by decide))
        refine g_tsIn 1914 hC (45 : Int32) c dL_law_33 (by decide) (by decide) rfl (by decide) ?_
        have hF := hF.2.2.2.2.2.2.2.2.2.2.2.2.2.2.2.2.2.2.2.2.2.2.2.2.2.2.2.2.2.2.2.2.2.2.2.2.2.2.2.2.2.2.2.2.2.2.1 c
        refine g_aload_n 1915 hC dL_law_1914 rfl 1 rfl rfl ?_
        obtain ⟨c_463, s_464, hu, hF⟩ := hF
        refine g_cV (rest := []) wl_L_205 hd_X0_back (ci := 0) rfl 1918 hC hF.1 (met_X0_back hF.2) rfl ⟨Nat.le_of_ble_eq_true rfl, Nat.le_of_ble_eq_true rfl⟩ hu rfl (Nat.le_of_ble_eq_true rfl) dL_law_1915 rfl (g_ty_i (u + c_463) (v + s_464) (Nat.le_refl _) (Nat.le_refl _) (fun x_462 M_461 hF => ?_))
        refine g_aload_n 1919 hC dL_law_1918 rfl 2 rfl rfl ?_
        refine g_cV (rest := [_]) wl_L_208 hd_X3_back (ci := 3) rfl 1922 hC hF.1 (met_X3_back hF.2) rfl ⟨Nat.le_of_ble_eq_true rfl, Nat.le_of_ble_eq_true rfl⟩ hu rfl (Nat.le_of_ble_eq_true rfl) dL_law_1919 rfl (g_ty_i (u + c_463) (v + s_464) (Nat.le_refl _) (Nat.le_refl _) (fun x_466 M_465 hF => ?_))
        refine g_icmp_eq 1925 1950 hC dL_law_1922 (by decide) rfl (fun c => ?_) (fun c => ?_)
        · have hF := hF.1 c
          exact w_L_law_b1950 hC _ _ _ _ _ hK18 _ _ hu _ hF
        · have hF := hF.2 c
          refine g_iconst 1926 hC (0 : Int32) dL_law_1925 (by decide) rfl ?_
          exact g_zreturn hC ⟨_, rfl, hF⟩ (Or.inl rfl) dL_law_1926 hu.1 hu.2
      · have c : (x_2 &&& (63 : Int32)) = (46 : Int32) := Int32.toInt_inj.mp (c.trans (by decide))
        refine g_tsIn 1927 hC (46 : Int32) c dL_law_33 (by decide) (by decide) rfl (by decide) ?_
        have hF := hF.2.2.2.2.2.2.2.2.2.2.2.2.2.2.2.2.2.2.2.2.2.2.2.2.2.2.2.2.2.2.2.2.2.2.2.2.2.2.2.2.2.2.2.2.2.2.2 c
        refine g_aload_n 1928 hC dL_law_1927 rfl 1 rfl rfl ?_
        refine g_aload_n 1929 hC dL_law_1928 rfl 0 rfl rfl ?_
        refine g_iload_n 1930 hC dL_law_1929 rfl 3 rfl rfl ?_
        refine g_iconst 1931 hC (1 : Int32) dL_law_1930 (by decide) rfl ?_
        refine g_iadd 1932 hC dL_law_1931 rfl ?_
        refine g_iald 1933 hC hF dL_law_1932 rfl (fun x_467 hF => ?_)
        refine g_cV (rest := []) wl_L_209 hd_X0_status (ci := 0) rfl 1936 hC hF.1 (met_X0_status hF.2) rfl ⟨Nat.le_of_ble_eq_true rfl, Nat.le_of_ble_eq_true rfl⟩ hu rfl (Nat.le_of_ble_eq_true rfl) dL_law_1933 rfl (g_ty_i u v (Nat.le_refl _) (Nat.le_refl _) (fun x_469 M_468 hF => ?_))
        refine g_aload_n 1937 hC dL_law_1936 rfl 2 rfl rfl ?_
        refine g_aload_n 1938 hC dL_law_1937 rfl 0 rfl rfl ?_
        refine g_iload_n 1939 hC dL_law_1938 rfl 3 rfl rfl ?_
        refine g_iconst 1940 hC (1 : Int32) dL_law_1939 (by decide) rfl ?_
        refine g_iadd 1941 hC dL_law_1940 rfl ?_
        refine g_iald 1942 hC hF dL_law_1941 rfl (fun x_470 hF => ?_)
        refine g_cV (rest := [_]) wl_L_212 hd_X3_status (ci := 3) rfl 1945 hC hF.1 (met_X3_status hF.2) rfl ⟨Nat.le_of_ble_eq_true rfl, Nat.le_of_ble_eq_true rfl⟩ hu rfl (Nat.le_of_ble_eq_true rfl) dL_law_1942 rfl (g_ty_i u v (Nat.le_refl _) (Nat.le_refl _) (fun x_472 M_471 hF => ?_))
        refine g_icmp_eq 1948 1950 hC dL_law_1945 (by decide) rfl (fun c => ?_) (fun c => ?_)
        · have hF := hF.1 c
          exact w_L_law_b1950 hC _ _ _ _ _ hK18 _ _ hu _ hF
        · have hF := hF.2 c
          refine g_iconst 1949 hC (0 : Int32) dL_law_1948 (by decide) rfl ?_
          exact g_zreturn hC ⟨_, rfl, hF⟩ (Or.inl rfl) dL_law_1949 hu.1 hu.2
def F_L_law (Lc Ls : Nat) (M : gM) (a0 : Nat) (Q : Int32 → gM → Prop)  : Prop :=
  nO M 0 0 Lc Ls 0 6 fun a_1 M_2 =>
  ∃ c_5 s_6, ((0 + 1) + c_5 ≤ Lc ∧ (0 + 6) + s_6 ≤ Ls) ∧
  F_X0_init c_5 s_6 M_2 a_1 fun M_3 =>
  nO M_3 ((0 + 1) + c_5) ((0 + 6) + s_6) Lc Ls 3 46 fun a_7 M_8 =>
  ∃ c_11 s_12, ((((0 + 1) + c_5) + 1) + c_11 ≤ Lc ∧ (((0 + 6) + s_6) + 46) + s_12 ≤ Ls) ∧
  F_X3_init c_11 s_12 M_8 a_7 fun M_9 =>
  ∃ n_13, F_L_law_b18 Q Lc Ls a0 a_1 a_7 n_13 (0 : Int32) ((((0 + 1) + c_5) + 1) + c_11) ((((0 + 6) + s_6) + 46) + s_12) M_9
theorem w_L_law {G : gG} {Q : Int32 → gM → Prop} {Lc Ls : Nat} (hC : gCx G cL_law 4 RL (some .boolean) (gQi Q) (rm_L_law Lc Ls)) (M : gM) (a0 : Nat) (hF : F_L_law Lc Ls M a0 Q) : gAt G 0 0 M [(0, .ref a0)] 0 [] := by
  have hu : 0 ≤ Lc ∧ 0 ≤ Ls := ⟨Nat.zero_le _, Nat.zero_le _⟩
  unfold F_L_law at hF
  have hu := hF.1
  refine g_new (C := RX0) (T := TX0) (N := 6) (ci := 0) in_X0 tyX0_ok (by decide) rfl q103 q104 q69 3 hC hF dL_law_0 rfl (fun a_1 M_2 hF => ?_)
  refine g_dup 4 hC dL_law_3 rfl rfl ?_
  obtain ⟨c_5, s_6, hu, hF⟩ := hF
  refine g_cI (rest := [_]) q107 q69 q105 q106 rfl hd_X0_init 7 hC (met_X0_init hF) rfl ⟨Nat.le_of_ble_eq_true rfl, Nat.le_of_ble_eq_true rfl⟩ hu rfl (Nat.le_of_ble_eq_true rfl) dL_law_4 rfl (g_ty_v ((0 + 1) + c_5) ((0 + 6) + s_6) (Nat.le_refl _) (Nat.le_refl _) (fun M_3 hF => ?_))
  refine g_astore_n 8 hC (lv' := [(1, .ref _), (0, .ref _)]) dL_law_7 rfl rfl (by decide) rfl ?_
  have hu := hF.1
  refine g_new (C := RX3) (T := TX3) (N := 46) (ci := 3) in_X3 tyX3_ok (by decide) rfl q1377 q1378 q72 11 hC hF dL_law_8 rfl (fun a_7 M_8 hF => ?_)
  refine g_dup 12 hC dL_law_11 rfl rfl ?_
  obtain ⟨c_11, s_12, hu, hF⟩ := hF
  refine g_cI (rest := [_]) q1381 q72 q1379 q1380 rfl hd_X3_init 15 hC (met_X3_init hF) rfl ⟨Nat.le_of_ble_eq_true rfl, Nat.le_of_ble_eq_true rfl⟩ hu rfl (Nat.le_of_ble_eq_true rfl) dL_law_12 rfl (g_ty_v ((((0 + 1) + c_5) + 1) + c_11) ((((0 + 6) + s_6) + 46) + s_12) (Nat.le_refl _) (Nat.le_refl _) (fun M_9 hF => ?_))
  refine g_astore_n 16 hC (lv' := [(2, .ref _), (1, .ref _), (0, .ref _)]) dL_law_15 rfl rfl (by decide) rfl ?_
  refine g_iconst 17 hC (0 : Int32) dL_law_16 (by decide) rfl ?_
  refine g_istore_n 18 hC (lv' := [(3, .int _), (2, .ref _), (1, .ref _), (0, .ref _)]) dL_law_17 rfl rfl (by decide) rfl ?_
  refine g_sub [3, 2, 1, 0] rfl ?_
  obtain ⟨n_13, hF⟩ := hF
  exact w_L_law_b18 hC _ _ _ n_13 _ _ _ hu _ hF