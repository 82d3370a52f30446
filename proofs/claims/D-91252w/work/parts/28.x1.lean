/-! THE CONTEXT: what the tables say beside lw_all: casts, nest mates' links, abstract methods, arrays over a class, String constants. By tools/gen_x1.py -/
set_option maxRecDepth 100000
def nwl : List Cond := [
  Jvm.Cond.methodLinkNest "HomeRoll" (56 : Nat) ({ cls := "HomeRoll$View", name := "<init>", desc := "(LHomeRoll;)V" } : Jvm.MethodName) "HomeRoll",
  Jvm.Cond.castable "[LHomeRoll$Known;" "java/lang/Cloneable",
  Jvm.Cond.fieldLinkNest "HomeRoll$Reader" (37 : Nat) "HomeRoll" "tape" "[B" "HomeRoll",
  Jvm.Cond.fieldLinkNest "HomeRoll$Reader" (34 : Nat) "HomeRoll" "taped" "I" "HomeRoll",
  Jvm.Cond.fieldLinkNest "HomeRoll$Known$4" (7 : Nat) "HomeRoll" "worth" "[I" "HomeRoll",
  Jvm.Cond.methodLinkNest "HomeRoll" (184 : Nat) ({ cls := "HomeRoll$Reader", name := "<init>", desc := "(LHomeRoll;)V" } : Jvm.MethodName) "HomeRoll",
  Jvm.Cond.castable "[B" "java/lang/Cloneable",
  Jvm.Cond.castable "HomeRoll$Wrong" "HomeRoll$Wrong",
  Jvm.Cond.declares ({ cls := "java/lang/Exception", name := "<init>", desc := "()V" } : Jvm.MethodName),
  Jvm.Cond.declares ({ cls := "java/lang/Exception", name := "<init>", desc := "(Ljava/lang/String;)V" } : Jvm.MethodName),
  Jvm.Cond.declares ({ cls := "java/lang/Throwable", name := "<init>", desc := "()V" } : Jvm.MethodName),
  Jvm.Cond.declares ({ cls := "java/lang/Throwable", name := "<init>", desc := "(Ljava/lang/String;)V" } : Jvm.MethodName),
  Jvm.Cond.declares ({ cls := "jdk/internal/access/JavaLangAccess", name := "getUTF16Char", desc := "([BI)C" } : Jvm.MethodName),
  Jvm.Cond.castable "java/lang/System$2" "jdk/internal/access/JavaLangAccess",
  Jvm.Cond.methodLinkNest "HomeRoll$Not" (7 : Nat) ({ cls := "HomeRoll$Ex", name := "<init>", desc := "(LHomeRoll;)V" } : Jvm.MethodName) "HomeRoll",
  Jvm.Cond.methodLinkNest "HomeRoll$Plain" (7 : Nat) ({ cls := "HomeRoll$Ex", name := "<init>", desc := "(LHomeRoll;)V" } : Jvm.MethodName) "HomeRoll",
  Jvm.Cond.methodLinkNest "HomeRoll$Term" (7 : Nat) ({ cls := "HomeRoll$Ex", name := "<init>", desc := "(LHomeRoll;)V" } : Jvm.MethodName) "HomeRoll",
  Jvm.Cond.methodLinkNest "HomeRoll$Both" (7 : Nat) ({ cls := "HomeRoll$Ex", name := "<init>", desc := "(LHomeRoll;)V" } : Jvm.MethodName) "HomeRoll",
  Jvm.Cond.methodLinkNest "HomeRoll$Join" (7 : Nat) ({ cls := "HomeRoll$Ex", name := "<init>", desc := "(LHomeRoll;)V" } : Jvm.MethodName) "HomeRoll",
  Jvm.Cond.declares ({ cls := "HomeRoll$Ex", name := "of", desc := "(LHomeRoll$View;)I" } : Jvm.MethodName),
  Jvm.Cond.declares ({ cls := "HomeRoll$Known", name := "of", desc := "(LHomeRoll;LHomeRoll$View;)J" } : Jvm.MethodName),
  Jvm.Cond.methodLinkNest "HomeRoll$Known$3" (24 : Nat) ({ cls := "HomeRoll", name := "inMoney", desc := "(III)J" } : Jvm.MethodName) "HomeRoll",
  Jvm.Cond.methodLinkNest "HomeRoll$Known$9" (22 : Nat) ({ cls := "HomeRoll", name := "isDead", desc := "(II)Z" } : Jvm.MethodName) "HomeRoll",
  Jvm.Cond.castable "HomeRoll$Both" "HomeRoll$Ex",
  Jvm.Cond.castable "HomeRoll$Join" "HomeRoll$Ex",
  Jvm.Cond.castable "HomeRoll$Not" "HomeRoll$Ex",
  Jvm.Cond.castable "HomeRoll$Plain" "HomeRoll$Ex",
  Jvm.Cond.castable "HomeRoll$Term" "HomeRoll$Ex",
  Jvm.Cond.castable "HomeRoll$Paper" "java/lang/Object",
  Jvm.Cond.castable "HomeRoll$Known" "java/lang/Object",
  Jvm.Cond.castable "HomeRoll" "java/lang/Object",
  Jvm.Cond.castable "java/util/ArrayList" "java/lang/Object",
  Jvm.Cond.castable "HomeRoll$View" "java/lang/Object",
  Jvm.Cond.castable "HomeRoll$Known$1" "java/lang/Object",
  Jvm.Cond.castable "HomeRoll$Known$2" "java/lang/Object",
  Jvm.Cond.castable "HomeRoll$Known$3" "java/lang/Object",
  Jvm.Cond.castable "HomeRoll$Known$4" "java/lang/Object",
  Jvm.Cond.castable "HomeRoll$Known$5" "java/lang/Object",
  Jvm.Cond.castable "HomeRoll$Known$6" "java/lang/Object",
  Jvm.Cond.castable "HomeRoll$Known$7" "java/lang/Object",
  Jvm.Cond.castable "HomeRoll$Known$8" "java/lang/Object",
  Jvm.Cond.castable "HomeRoll$Known$9" "java/lang/Object",
  Jvm.Cond.castable "HomeRollModel" "java/lang/Object",
  Jvm.Cond.castable "HomeRoll$Reader" "java/lang/Object",
  Jvm.Cond.castable "java/lang/StringBuilder" "java/lang/Object",
  Jvm.Cond.castable "java/lang/String" "java/lang/Object",
  Jvm.Cond.castable "HomeRoll$Wrong" "java/lang/Object",
  Jvm.Cond.castable "java/lang/System$2" "java/lang/Object",
  Jvm.Cond.castable "HomeRoll$Not" "java/lang/Object",
  Jvm.Cond.castable "HomeRoll$Plain" "java/lang/Object",
  Jvm.Cond.castable "HomeRoll$Term" "java/lang/Object",
  Jvm.Cond.castable "HomeRoll$Both" "java/lang/Object",
  Jvm.Cond.castable "HomeRoll$Join" "java/lang/Object",
  Jvm.Cond.castable "HomeRoll$Line" "java/lang/Object",
  Jvm.Cond.castable "java/lang/Throwable" "java/lang/Object",
  Jvm.Cond.castable "HomeRoll$Known$1" "HomeRoll$Known",
  Jvm.Cond.castable "HomeRoll$Known$2" "HomeRoll$Known",
  Jvm.Cond.castable "HomeRoll$Known$3" "HomeRoll$Known",
  Jvm.Cond.castable "HomeRoll$Known$4" "HomeRoll$Known",
  Jvm.Cond.castable "HomeRoll$Known$5" "HomeRoll$Known",
  Jvm.Cond.castable "HomeRoll$Known$6" "HomeRoll$Known",
  Jvm.Cond.castable "HomeRoll$Known$7" "HomeRoll$Known",
  Jvm.Cond.castable "HomeRoll$Known$8" "HomeRoll$Known",
  Jvm.Cond.castable "HomeRoll$Known$9" "HomeRoll$Known",
  Jvm.Cond.declares ({ cls := "java/lang/Object", name := "getClass", desc := "()Ljava/lang/Class;" } : Jvm.MethodName),
  Jvm.Cond.castable "[Ljava/lang/Object;" "java/lang/Object",
  Jvm.Cond.castable "[B" "java/lang/Object",
  Jvm.Cond.castable "[LHomeRoll$Paper;" "java/lang/Object",
  Jvm.Cond.castable "[I" "java/lang/Object",
  Jvm.Cond.castable "[LHomeRoll$Known;" "java/lang/Object",
  Jvm.Cond.castable "[[I" "java/lang/Object",
  Jvm.Cond.castable "[J" "java/lang/Object",
  Jvm.Cond.castable "[Z" "java/lang/Object"]
theorem nq137 : (Jvm.Cond.methodLinkNest "HomeRoll" (56 : Nat) ({ cls := "HomeRoll$View", name := "<init>", desc := "(LHomeRoll;)V" } : Jvm.MethodName) "HomeRoll") ∈ nwl := List.mem_of_getElem? (i := 0) rfl
theorem nq181 : (Jvm.Cond.castable "[LHomeRoll$Known;" "java/lang/Cloneable") ∈ nwl := List.mem_of_getElem? (i := 1) rfl
theorem nq187 : (Jvm.Cond.fieldLinkNest "HomeRoll$Reader" (37 : Nat) "HomeRoll" "tape" "[B" "HomeRoll") ∈ nwl := List.mem_of_getElem? (i := 2) rfl
theorem nq188 : (Jvm.Cond.fieldLinkNest "HomeRoll$Reader" (34 : Nat) "HomeRoll" "taped" "I" "HomeRoll") ∈ nwl := List.mem_of_getElem? (i := 3) rfl
theorem nq198 : (Jvm.Cond.fieldLinkNest "HomeRoll$Known$4" (7 : Nat) "HomeRoll" "worth" "[I" "HomeRoll") ∈ nwl := List.mem_of_getElem? (i := 4) rfl
theorem nq423 : (Jvm.Cond.methodLinkNest "HomeRoll" (184 : Nat) ({ cls := "HomeRoll$Reader", name := "<init>", desc := "(LHomeRoll;)V" } : Jvm.MethodName) "HomeRoll") ∈ nwl := List.mem_of_getElem? (i := 5) rfl
theorem nq534 : (Jvm.Cond.castable "[B" "java/lang/Cloneable") ∈ nwl := List.mem_of_getElem? (i := 6) rfl
theorem nq752 : (Jvm.Cond.castable "HomeRoll$Wrong" "HomeRoll$Wrong") ∈ nwl := List.mem_of_getElem? (i := 7) rfl
theorem nq753 : (Jvm.Cond.declares ({ cls := "java/lang/Exception", name := "<init>", desc := "()V" } : Jvm.MethodName)) ∈ nwl := List.mem_of_getElem? (i := 8) rfl
theorem nq754 : (Jvm.Cond.declares ({ cls := "java/lang/Exception", name := "<init>", desc := "(Ljava/lang/String;)V" } : Jvm.MethodName)) ∈ nwl := List.mem_of_getElem? (i := 9) rfl
theorem nq755 : (Jvm.Cond.declares ({ cls := "java/lang/Throwable", name := "<init>", desc := "()V" } : Jvm.MethodName)) ∈ nwl := List.mem_of_getElem? (i := 10) rfl
theorem nq756 : (Jvm.Cond.declares ({ cls := "java/lang/Throwable", name := "<init>", desc := "(Ljava/lang/String;)V" } : Jvm.MethodName)) ∈ nwl := List.mem_of_getElem? (i := 11) rfl
theorem nq854 : (Jvm.Cond.declares ({ cls := "jdk/internal/access/JavaLangAccess", name := "getUTF16Char", desc := "([BI)C" } : Jvm.MethodName)) ∈ nwl := List.mem_of_getElem? (i := 12) rfl
theorem nq855 : (Jvm.Cond.castable "java/lang/System$2" "jdk/internal/access/JavaLangAccess") ∈ nwl := List.mem_of_getElem? (i := 13) rfl
theorem nq923 : (Jvm.Cond.methodLinkNest "HomeRoll$Not" (7 : Nat) ({ cls := "HomeRoll$Ex", name := "<init>", desc := "(LHomeRoll;)V" } : Jvm.MethodName) "HomeRoll") ∈ nwl := List.mem_of_getElem? (i := 14) rfl
theorem nq950 : (Jvm.Cond.methodLinkNest "HomeRoll$Plain" (7 : Nat) ({ cls := "HomeRoll$Ex", name := "<init>", desc := "(LHomeRoll;)V" } : Jvm.MethodName) "HomeRoll") ∈ nwl := List.mem_of_getElem? (i := 15) rfl
theorem nq964 : (Jvm.Cond.methodLinkNest "HomeRoll$Term" (7 : Nat) ({ cls := "HomeRoll$Ex", name := "<init>", desc := "(LHomeRoll;)V" } : Jvm.MethodName) "HomeRoll") ∈ nwl := List.mem_of_getElem? (i := 16) rfl
theorem nq978 : (Jvm.Cond.methodLinkNest "HomeRoll$Both" (7 : Nat) ({ cls := "HomeRoll$Ex", name := "<init>", desc := "(LHomeRoll;)V" } : Jvm.MethodName) "HomeRoll") ∈ nwl := List.mem_of_getElem? (i := 17) rfl
theorem nq1069 : (Jvm.Cond.methodLinkNest "HomeRoll$Join" (7 : Nat) ({ cls := "HomeRoll$Ex", name := "<init>", desc := "(LHomeRoll;)V" } : Jvm.MethodName) "HomeRoll") ∈ nwl := List.mem_of_getElem? (i := 18) rfl
theorem nq1130 : (Jvm.Cond.declares ({ cls := "HomeRoll$Ex", name := "of", desc := "(LHomeRoll$View;)I" } : Jvm.MethodName)) ∈ nwl := List.mem_of_getElem? (i := 19) rfl
theorem nq1164 : (Jvm.Cond.declares ({ cls := "HomeRoll$Known", name := "of", desc := "(LHomeRoll;LHomeRoll$View;)J" } : Jvm.MethodName)) ∈ nwl := List.mem_of_getElem? (i := 20) rfl
theorem nq1175 : (Jvm.Cond.methodLinkNest "HomeRoll$Known$3" (24 : Nat) ({ cls := "HomeRoll", name := "inMoney", desc := "(III)J" } : Jvm.MethodName) "HomeRoll") ∈ nwl := List.mem_of_getElem? (i := 21) rfl
theorem nq1194 : (Jvm.Cond.methodLinkNest "HomeRoll$Known$9" (22 : Nat) ({ cls := "HomeRoll", name := "isDead", desc := "(II)Z" } : Jvm.MethodName) "HomeRoll") ∈ nwl := List.mem_of_getElem? (i := 22) rfl
theorem nq1706 : (Jvm.Cond.castable "HomeRoll$Both" "HomeRoll$Ex") ∈ nwl := List.mem_of_getElem? (i := 23) rfl
theorem nq1707 : (Jvm.Cond.castable "HomeRoll$Join" "HomeRoll$Ex") ∈ nwl := List.mem_of_getElem? (i := 24) rfl
theorem nq1708 : (Jvm.Cond.castable "HomeRoll$Not" "HomeRoll$Ex") ∈ nwl := List.mem_of_getElem? (i := 25) rfl
theorem nq1709 : (Jvm.Cond.castable "HomeRoll$Plain" "HomeRoll$Ex") ∈ nwl := List.mem_of_getElem? (i := 26) rfl
theorem nq1710 : (Jvm.Cond.castable "HomeRoll$Term" "HomeRoll$Ex") ∈ nwl := List.mem_of_getElem? (i := 27) rfl
theorem nq1711 : (Jvm.Cond.castable "HomeRoll$Paper" "java/lang/Object") ∈ nwl := List.mem_of_getElem? (i := 28) rfl
theorem nq1712 : (Jvm.Cond.castable "HomeRoll$Known" "java/lang/Object") ∈ nwl := List.mem_of_getElem? (i := 29) rfl
theorem nq1713 : (Jvm.Cond.castable "HomeRoll" "java/lang/Object") ∈ nwl := List.mem_of_getElem? (i := 30) rfl
theorem nq1714 : (Jvm.Cond.castable "java/util/ArrayList" "java/lang/Object") ∈ nwl := List.mem_of_getElem? (i := 31) rfl
theorem nq1715 : (Jvm.Cond.castable "HomeRoll$View" "java/lang/Object") ∈ nwl := List.mem_of_getElem? (i := 32) rfl
theorem nq1716 : (Jvm.Cond.castable "HomeRoll$Known$1" "java/lang/Object") ∈ nwl := List.mem_of_getElem? (i := 33) rfl
theorem nq1717 : (Jvm.Cond.castable "HomeRoll$Known$2" "java/lang/Object") ∈ nwl := List.mem_of_getElem? (i := 34) rfl
theorem nq1718 : (Jvm.Cond.castable "HomeRoll$Known$3" "java/lang/Object") ∈ nwl := List.mem_of_getElem? (i := 35) rfl
theorem nq1719 : (Jvm.Cond.castable "HomeRoll$Known$4" "java/lang/Object") ∈ nwl := List.mem_of_getElem? (i := 36) rfl
theorem nq1720 : (Jvm.Cond.castable "HomeRoll$Known$5" "java/lang/Object") ∈ nwl := List.mem_of_getElem? (i := 37) rfl
theorem nq1721 : (Jvm.Cond.castable "HomeRoll$Known$6" "java/lang/Object") ∈ nwl := List.mem_of_getElem? (i := 38) rfl
theorem nq1722 : (Jvm.Cond.castable "HomeRoll$Known$7" "java/lang/Object") ∈ nwl := List.mem_of_getElem? (i := 39) rfl
theorem nq1723 : (Jvm.Cond.castable "HomeRoll$Known$8" "java/lang/Object") ∈ nwl := List.mem_of_getElem? (i := 40) rfl
theorem nq1724 : (Jvm.Cond.castable "HomeRoll$Known$9" "java/lang/Object") ∈ nwl := List.mem_of_getElem? (i := 41) rfl
theorem nq1725 : (Jvm.Cond.castable "HomeRollModel" "java/lang/Object") ∈ nwl := List.mem_of_getElem? (i := 42) rfl
theorem nq1726 : (Jvm.Cond.castable "HomeRoll$Reader" "java/lang/Object") ∈ nwl := List.mem_of_getElem? (i := 43) rfl
theorem nq1727 : (Jvm.Cond.castable "java/lang/StringBuilder" "java/lang/Object") ∈ nwl := List.mem_of_getElem? (i := 44) rfl
theorem nq1728 : (Jvm.Cond.castable "java/lang/String" "java/lang/Object") ∈ nwl := List.mem_of_getElem? (i := 45) rfl
theorem nq1729 : (Jvm.Cond.castable "HomeRoll$Wrong" "java/lang/Object") ∈ nwl := List.mem_of_getElem? (i := 46) rfl
theorem nq1730 : (Jvm.Cond.castable "java/lang/System$2" "java/lang/Object") ∈ nwl := List.mem_of_getElem? (i := 47) rfl
theorem nq1731 : (Jvm.Cond.castable "HomeRoll$Not" "java/lang/Object") ∈ nwl := List.mem_of_getElem? (i := 48) rfl
theorem nq1732 : (Jvm.Cond.castable "HomeRoll$Plain" "java/lang/Object") ∈ nwl := List.mem_of_getElem? (i := 49) rfl
theorem nq1733 : (Jvm.Cond.castable "HomeRoll$Term" "java/lang/Object") ∈ nwl := List.mem_of_getElem? (i := 50) rfl
theorem nq1734 : (Jvm.Cond.castable "HomeRoll$Both" "java/lang/Object") ∈ nwl := List.mem_of_getElem? (i := 51) rfl
theorem nq1735 : (Jvm.Cond.castable "HomeRoll$Join" "java/lang/Object") ∈ nwl := List.mem_of_getElem? (i := 52) rfl
theorem nq1736 : (Jvm.Cond.castable "HomeRoll$Line" "java/lang/Object") ∈ nwl := List.mem_of_getElem? (i := 53) rfl
theorem nq1737 : (Jvm.Cond.castable "java/lang/Throwable" "java/lang/Object") ∈ nwl := List.mem_of_getElem? (i := 54) rfl
theorem nq1738 : (Jvm.Cond.castable "HomeRoll$Known$1" "HomeRoll$Known") ∈ nwl := List.mem_of_getElem? (i := 55) rfl
theorem nq1739 : (Jvm.Cond.castable "HomeRoll$Known$2" "HomeRoll$Known") ∈ nwl := List.mem_of_getElem? (i := 56) rfl
theorem nq1740 : (Jvm.Cond.castable "HomeRoll$Known$3" "HomeRoll$Known") ∈ nwl := List.mem_of_getElem? (i := 57) rfl
theorem nq1741 : (Jvm.Cond.castable "HomeRoll$Known$4" "HomeRoll$Known") ∈ nwl := List.mem_of_getElem? (i := 58) rfl
theorem nq1742 : (Jvm.Cond.castable "HomeRoll$Known$5" "HomeRoll$Known") ∈ nwl := List.mem_of_getElem? (i := 59) rfl
theorem nq1743 : (Jvm.Cond.castable "HomeRoll$Known$6" "HomeRoll$Known") ∈ nwl := List.mem_of_getElem? (i := 60) rfl
theorem nq1744 : (Jvm.Cond.castable "HomeRoll$Known$7" "HomeRoll$Known") ∈ nwl := List.mem_of_getElem? (i := 61) rfl
theorem nq1745 : (Jvm.Cond.castable "HomeRoll$Known$8" "HomeRoll$Known") ∈ nwl := List.mem_of_getElem? (i := 62) rfl
theorem nq1746 : (Jvm.Cond.castable "HomeRoll$Known$9" "HomeRoll$Known") ∈ nwl := List.mem_of_getElem? (i := 63) rfl
theorem nq1749 : (Jvm.Cond.declares ({ cls := "java/lang/Object", name := "getClass", desc := "()Ljava/lang/Class;" } : Jvm.MethodName)) ∈ nwl := List.mem_of_getElem? (i := 64) rfl
theorem nq1750 : (Jvm.Cond.castable "[Ljava/lang/Object;" "java/lang/Object") ∈ nwl := List.mem_of_getElem? (i := 65) rfl
theorem nq1751 : (Jvm.Cond.castable "[B" "java/lang/Object") ∈ nwl := List.mem_of_getElem? (i := 66) rfl
theorem nq1752 : (Jvm.Cond.castable "[LHomeRoll$Paper;" "java/lang/Object") ∈ nwl := List.mem_of_getElem? (i := 67) rfl
theorem nq1753 : (Jvm.Cond.castable "[I" "java/lang/Object") ∈ nwl := List.mem_of_getElem? (i := 68) rfl
theorem nq1754 : (Jvm.Cond.castable "[LHomeRoll$Known;" "java/lang/Object") ∈ nwl := List.mem_of_getElem? (i := 69) rfl
theorem nq1755 : (Jvm.Cond.castable "[[I" "java/lang/Object") ∈ nwl := List.mem_of_getElem? (i := 70) rfl
theorem nq1756 : (Jvm.Cond.castable "[J" "java/lang/Object") ∈ nwl := List.mem_of_getElem? (i := 71) rfl
theorem nq1757 : (Jvm.Cond.castable "[Z" "java/lang/Object") ∈ nwl := List.mem_of_getElem? (i := 72) rfl
theorem nwl_tbl : ∀ w ∈ nwl, w ∈ lw_tbl := by
  intro w hw
  simp only [nwl, List.mem_cons, List.not_mem_nil, or_false] at hw
  rcases hw with rfl | rfl | rfl | rfl | rfl | rfl | rfl | rfl | rfl | rfl | rfl | rfl | rfl | rfl | rfl | rfl | rfl | rfl | rfl | rfl | rfl | rfl | rfl | rfl | rfl | rfl | rfl | rfl | rfl | rfl | rfl | rfl | rfl | rfl | rfl | rfl | rfl | rfl | rfl | rfl | rfl | rfl | rfl | rfl | rfl | rfl | rfl | rfl | rfl | rfl | rfl | rfl | rfl | rfl | rfl | rfl | rfl | rfl | rfl | rfl | rfl | rfl | rfl | rfl | rfl | rfl | rfl | rfl | rfl | rfl | rfl | rfl | rfl
  · exact q137
  · exact q181
  · exact q187
  · exact q188
  · exact q198
  · exact q423
  · exact q534
  · exact q752
  · exact q753
  · exact q754
  · exact q755
  · exact q756
  · exact q854
  · exact q855
  · exact q923
  · exact q950
  · exact q964
  · exact q978
  · exact q1069
  · exact q1130
  · exact q1164
  · exact q1175
  · exact q1194
  · exact q1706
  · exact q1707
  · exact q1708
  · exact q1709
  · exact q1710
  · exact q1711
  · exact q1712
  · exact q1713
  · exact q1714
  · exact q1715
  · exact q1716
  · exact q1717
  · exact q1718
  · exact q1719
  · exact q1720
  · exact q1721
  · exact q1722
  · exact q1723
  · exact q1724
  · exact q1725
  · exact q1726
  · exact q1727
  · exact q1728
  · exact q1729
  · exact q1730
  · exact q1731
  · exact q1732
  · exact q1733
  · exact q1734
  · exact q1735
  · exact q1736
  · exact q1737
  · exact q1738
  · exact q1739
  · exact q1740
  · exact q1741
  · exact q1742
  · exact q1743
  · exact q1744
  · exact q1745
  · exact q1746
  · exact q1749
  · exact q1750
  · exact q1751
  · exact q1752
  · exact q1753
  · exact q1754
  · exact q1755
  · exact q1756
  · exact q1757
def nwOk (w : Cond) : Bool := match w with
  | .castable _ _ => true
  | .declares _ => true
  | .fieldLinkNest _ _ _ _ _ _ => true
  | .methodLinkNest _ _ _ _ => true
  | _ => false
theorem nwl_ok : ∀ w ∈ nwl, nwOk w = true := by
  intro w hw
  have : nwl.all nwOk = true := by decide +kernel
  exact List.all_eq_true.mp this w hw
theorem nw_warm {w : Cond} (h : nwOk w = true) {s U : State} (hW : s.WarmedH U.vm) (hZ : va_Nw w s) : va_Nw w U := by
  unfold nwOk at h
  split at h
  · exact va_Nw.warmC hW hZ
  · exact va_Nw.warmD hW hZ
  · exact va_Nw.warmF hW hZ
  · exact va_Nw.warmM hW hZ
  · cases h
theorem nw_same {w : Cond} (h : nwOk w = true) {u U : State} (hv : u.vm = U.vm) (hZ : va_Nw w u) : va_Nw w U := by
  unfold nwOk at h
  split at h
  · exact va_Nw.same rfl hv hZ
  · exact va_Nw.same rfl hv hZ
  · exact va_Nw.same rfl hv hZ
  · exact va_Nw.same rfl hv hZ
  · cases h
theorem nw_of {w : Cond} (h : nwOk w = true) {A : Array Value} {U : State} (hZ : w.before A U = true) : va_Nw w U := by
  unfold nwOk at h
  split at h
  · exact va_Nw.of rfl hZ
  · exact va_Nw.of rfl hZ
  · exact va_Nw.of rfl hZ
  · exact va_Nw.of rfl hZ
  · cases h
/-- the String constants: owner, entry, text -/
def sTab : List (String × Nat × String) := [("HomeRoll$Reader", 15, ""), ("HomeRoll$Reader", 72, ";()<>=+-"), ("HomeRoll$Reader", 91, "when"), ("HomeRoll$Known", 70, "forced"), ("HomeRoll$Known", 76, "given"), ("HomeRoll$Known", 78, "price"), ("HomeRoll$Known", 80, "worth"), ("HomeRoll$Known", 82, "year"), ("HomeRoll$Known", 84, "held"), ("HomeRoll$Known", 86, "hands"), ("HomeRoll$Known", 88, "lives"), ("HomeRoll$Known", 90, "dead"), ("HomeRoll$Reader", 137, "not"), ("HomeRoll$Reader", 161, "and"), ("HomeRoll$Reader", 145, "or"), ("HomeRoll$Reader", 109, "do"), ("HomeRoll$Reader", 111, "back"), ("HomeRoll$Reader", 113, "other"), ("HomeRoll$Reader", 115, "money"), ("HomeRoll$Reader", 117, "none")]
/-- constants of a run: classes, array classes, places of the String constants and of their bytes, of the enum's constants, of Object[]'s class object, the heap's size at the start -/
abbrev Kg : Type := va_G × (Nat → ClassId) × (Nat → Nat) × (Nat → Nat) × (Nat → Nat) × Nat × Nat
abbrev Kg.D (κ : Kg) : va_G := κ.1
abbrev Kg.cA (κ : Kg) : Nat → ClassId := κ.2.1
abbrev Kg.sK (κ : Kg) : Nat → Nat := κ.2.2.1
abbrev Kg.sV (κ : Kg) : Nat → Nat := κ.2.2.2.1
abbrev Kg.kn (κ : Kg) : Nat → Nat := κ.2.2.2.2.1
abbrev Kg.mi (κ : Kg) : Nat := κ.2.2.2.2.2.1
abbrev Kg.base (κ : Kg) : Nat := κ.2.2.2.2.2.2
/-- StringBuilder's call of its super's private method -/
def selEC : Cond := .selects "java/lang/StringBuilder" ⟨"java/lang/AbstractStringBuilder", "ensureCapacityInternal", "(I)V"⟩ ⟨"java/lang/AbstractStringBuilder", "ensureCapacityInternal", "(I)V"⟩
theorem selEC.warm {s U : State} (hW : s.WarmedH U.vm) (h : va_Nw selEC s) : va_Nw selEC U := word_at hW (Or.inl (by first | rfl | simp [selEC, Cond.onTables, Cond.keeps, Cond.steady])) h
/-- the tables' part -/
def KX (κ : Kg) (U : State) : Prop := K0 κ.D κ.cA U ∧ (∀ w ∈ nwl, va_Nw w U) ∧ (va_AO "java/lang/Object" U ∧ va_AO "HomeRoll$Paper" U ∧ va_AO "HomeRoll$Known" U ∧ va_Nw selEC U) ∧ va_Mi "[Ljava/lang/Object;" κ.mi U ∧ ∀ (i : Nat) (q : String × Nat × String), sTab[i]? = some q → vk_R q.1 q.2.1 q.2.2 (κ.sK i) U
theorem KX.warm {κ : Kg} {s U : State} (hW : s.WarmedH U.vm) (h : KX κ s) : KX κ U :=
  ⟨va_K.moved hW.alike h.1, fun w hw => nw_warm (nwl_ok w hw) hW (h.2.1 w hw), ⟨h.2.2.1.1.moved hW.alike, h.2.2.1.2.1.moved hW.alike, h.2.2.1.2.2.1.moved hW.alike, selEC.warm hW h.2.2.1.2.2.2⟩, h.2.2.2.1.moved hW.alike, fun i q hq => vk_R.warm hW (h.2.2.2.2 i q hq)⟩
theorem KX.same {κ : Kg} {u U : State} (hv : u.vm = U.vm) (h : KX κ u) : KX κ U := by
  have ha : u.vm.Alike U.vm := by rw [hv]; exact Vm.Alike.refl _
  exact ⟨va_K.moved ha h.1, fun w hw => nw_same (nwl_ok w hw) hv (h.2.1 w hw), ⟨h.2.2.1.1.moved ha, h.2.2.1.2.1.moved ha, h.2.2.1.2.2.1.moved ha, va_Nw.same rfl hv h.2.2.1.2.2.2⟩, h.2.2.2.1.moved ha, fun i q hq => vk_R.same hv.symm (h.2.2.2.2 i q hq)⟩

