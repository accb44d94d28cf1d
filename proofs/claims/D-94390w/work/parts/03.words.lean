set_option maxRecDepth 100000
theorem q159 : (Jvm.Cond.initialized "StiltTown") ∈ lw_all := lw_g (lw_at lw_m1 1 rfl) rfl
theorem q197 : (Jvm.Cond.instantiable "StiltTown" (20 : Nat)) ∈ lw_all := lw_g (lw_at lw_m1 39 rfl) rfl
theorem q199 : (Jvm.Cond.instanceMethod ({ cls := "StiltTown", name := "<init>", desc := "()V" } : Jvm.MethodName)) ∈ lw_all := lw_g (lw_at lw_m1 41 rfl) rfl
theorem q200 : (Jvm.Cond.code ({ cls := "StiltTown", name := "<init>", desc := "()V" } : Jvm.MethodName) prog_1_method_4_code (2 : Nat) (Option.none : Option Jvm.ClassFile.FieldType)) ∈ lw_all := lw_g (lw_at lw_m1 42 rfl) rfl
theorem q201 : (Jvm.Cond.methodLink "StiltTown" (12 : Nat) ({ cls := "java/lang/Object", name := "<init>", desc := "()V" } : Jvm.MethodName)) ∈ lw_all := lw_g (lw_at lw_m1 43 rfl) rfl
theorem q204 : (Jvm.Cond.classLink "StiltTown" (18 : Nat) "StiltTown$Scanner") ∈ lw_all := lw_g (lw_at lw_m1 46 rfl) rfl
theorem q206 : (Jvm.Cond.methodLinkNest "StiltTown" (20 : Nat) ({ cls := "StiltTown$Scanner", name := "<init>", desc := "()V" } : Jvm.MethodName) "StiltTown") ∈ lw_tbl := lw_at lw_m1 48 rfl
theorem q212 : (Jvm.Cond.fieldLinkNest "StiltTown" (476 : Nat) "StiltTown$Scanner" "taped" "I" "StiltTown") ∈ lw_tbl := lw_at lw_m1 54 rfl
theorem q236 : (Jvm.Cond.classLink "StiltTown" (25 : Nat) "StiltTown$Reader") ∈ lw_all := lw_g (lw_at lw_m1 78 rfl) rfl
theorem q238 : (Jvm.Cond.methodLink "StiltTown" (27 : Nat) ({ cls := "StiltTown$Reader", name := "<init>", desc := "(LStiltTown$Scanner;)V" } : Jvm.MethodName)) ∈ lw_all := lw_g (lw_at lw_m1 80 rfl) rfl
theorem q271 : (Jvm.Cond.classLink "StiltTown" (38 : Nat) "StiltTown$Town") ∈ lw_all := lw_g (lw_at lw_m1 113 rfl) rfl
theorem q273 : (Jvm.Cond.methodLink "StiltTown" (40 : Nat) ({ cls := "StiltTown$Town", name := "<init>", desc := "()V" } : Jvm.MethodName)) ∈ lw_all := lw_g (lw_at lw_m1 115 rfl) rfl
theorem q328 : (Jvm.Cond.fieldLinkNest "StiltTown" (127 : Nat) "StiltTown$Town" "houses" "Ljava/util/ArrayList;" "StiltTown") ∈ lw_tbl := lw_at lw_m1 170 rfl
theorem q332 : (Jvm.Cond.fieldLinkNest "StiltTown" (256 : Nat) "StiltTown$Town" "stairs" "Ljava/util/ArrayList;" "StiltTown") ∈ lw_tbl := lw_at lw_m1 174 rfl
theorem q334 : (Jvm.Cond.fieldLinkNest "StiltTown" (155 : Nat) "StiltTown$Town" "woods" "Ljava/util/ArrayList;" "StiltTown") ∈ lw_tbl := lw_at lw_m1 176 rfl
theorem q338 : (Jvm.Cond.fieldLinkNest "StiltTown" (399 : Nat) "StiltTown$Town" "falls" "Ljava/util/ArrayList;" "StiltTown") ∈ lw_tbl := lw_at lw_m1 180 rfl
theorem q341 : (Jvm.Cond.fieldLinkNest "StiltTown" (292 : Nat) "StiltTown$Town" "bad" "Ljava/util/ArrayList;" "StiltTown") ∈ lw_tbl := lw_at lw_m1 183 rfl
theorem q343 : (Jvm.Cond.fieldLinkNest "StiltTown" (181 : Nat) "StiltTown$Town" "rank" "[I" "StiltTown") ∈ lw_tbl := lw_at lw_m1 185 rfl
theorem q345 : (Jvm.Cond.fieldLinkNest "StiltTown" (178 : Nat) "StiltTown$Town" "offices" "I" "StiltTown") ∈ lw_tbl := lw_at lw_m1 187 rfl
theorem q348 : (Jvm.Cond.fieldLinkNest "StiltTown" (148 : Nat) "StiltTown$Town" "officeOf" "[I" "StiltTown") ∈ lw_tbl := lw_at lw_m1 190 rfl
theorem q353 : (Jvm.Cond.fieldLinkNest "StiltTown" (263 : Nat) "StiltTown$Town" "isQuay" "[Z" "StiltTown") ∈ lw_tbl := lw_at lw_m1 195 rfl
theorem q355 : (Jvm.Cond.fieldLinkNest "StiltTown" (473 : Nat) "StiltTown$Town" "quays" "I" "StiltTown") ∈ lw_tbl := lw_at lw_m1 197 rfl
theorem q358 : (Jvm.Cond.fieldLinkNest "StiltTown" (342 : Nat) "StiltTown$Town" "crews" "I" "StiltTown") ∈ lw_tbl := lw_at lw_m1 200 rfl
theorem q361 : (Jvm.Cond.fieldLinkNest "StiltTown" (345 : Nat) "StiltTown$Town" "jack" "I" "StiltTown") ∈ lw_tbl := lw_at lw_m1 203 rfl
theorem q364 : (Jvm.Cond.fieldLinkNest "StiltTown" (230 : Nat) "StiltTown$Town" "tide" "LStiltTown$Term;" "StiltTown") ∈ lw_tbl := lw_at lw_m1 206 rfl
theorem q366 : (Jvm.Cond.fieldLinkNest "StiltTown" (203 : Nat) "StiltTown$Town" "due" "LStiltTown$Term;" "StiltTown") ∈ lw_tbl := lw_at lw_m1 208 rfl
theorem q370 : (Jvm.Cond.fieldLinkNest "StiltTown" (286 : Nat) "StiltTown$Town" "sway" "LStiltTown$Term;" "StiltTown") ∈ lw_tbl := lw_at lw_m1 212 rfl
theorem q404 : (Jvm.Cond.classLink "StiltTown" (45 : Nat) "StiltTown$State") ∈ lw_all := lw_g (lw_at lw_m2 6 rfl) rfl
theorem q406 : (Jvm.Cond.methodLinkNest "StiltTown" (47 : Nat) ({ cls := "StiltTown$State", name := "<init>", desc := "()V" } : Jvm.MethodName) "StiltTown") ∈ lw_tbl := lw_at lw_m2 8 rfl
theorem q414 : (Jvm.Cond.fieldLinkNest "StiltTown" (137 : Nat) "StiltTown$State" "height" "[I" "StiltTown") ∈ lw_tbl := lw_at lw_m2 16 rfl
theorem q416 : (Jvm.Cond.fieldLinkNest "StiltTown" (103 : Nat) "StiltTown$State" "officeOf" "[I" "StiltTown") ∈ lw_tbl := lw_at lw_m2 18 rfl
theorem q419 : (Jvm.Cond.fieldLinkNest "StiltTown" (158 : Nat) "StiltTown$State" "wood" "[I" "StiltTown") ∈ lw_tbl := lw_at lw_m2 21 rfl
theorem q421 : (Jvm.Cond.fieldLinkNest "StiltTown" (227 : Nat) "StiltTown$State" "month" "I" "StiltTown") ∈ lw_tbl := lw_at lw_m2 23 rfl
theorem q423 : (Jvm.Cond.fieldLinkNest "StiltTown" (323 : Nat) "StiltTown$State" "works" "Ljava/util/ArrayList;" "StiltTown") ∈ lw_tbl := lw_at lw_m2 25 rfl
theorem q425 : (Jvm.Cond.fieldLinkNest "StiltTown" (418 : Nat) "StiltTown$State" "logs" "Ljava/util/ArrayList;" "StiltTown") ∈ lw_tbl := lw_at lw_m2 27 rfl
theorem q440 : (Jvm.Cond.classLink "StiltTown" (56 : Nat) "StiltTown$View") ∈ lw_all := lw_g (lw_at lw_m2 42 rfl) rfl
theorem q442 : (Jvm.Cond.methodLinkNest "StiltTown" (58 : Nat) ({ cls := "StiltTown$View", name := "<init>", desc := "()V" } : Jvm.MethodName) "StiltTown") ∈ lw_tbl := lw_at lw_m2 44 rfl
theorem q448 : (Jvm.Cond.fieldLinkNest "StiltTown" (187 : Nat) "StiltTown$View" "values" "[I" "StiltTown") ∈ lw_tbl := lw_at lw_m2 50 rfl
theorem q457 : (Jvm.Cond.classLink "StiltTown" (63 : Nat) "StiltTown$Kept") ∈ lw_all := lw_g (lw_at lw_m2 59 rfl) rfl
theorem q459 : (Jvm.Cond.methodLinkNest "StiltTown" (65 : Nat) ({ cls := "StiltTown$Kept", name := "<init>", desc := "()V" } : Jvm.MethodName) "StiltTown") ∈ lw_tbl := lw_at lw_m2 61 rfl
theorem q464 : (Jvm.Cond.fieldLinkNest "StiltTown" (373 : Nat) "StiltTown$Kept" "height" "[I" "StiltTown") ∈ lw_tbl := lw_at lw_m2 66 rfl
theorem q466 : (Jvm.Cond.fieldLinkNest "StiltTown" (374 : Nat) "StiltTown$Kept" "wood" "[I" "StiltTown") ∈ lw_tbl := lw_at lw_m2 68 rfl
theorem q473 : (Jvm.Cond.classLink "StiltTown" (78 : Nat) "[[I") ∈ lw_all := lw_g (lw_at lw_m2 75 rfl) rfl
theorem q475 : (Jvm.Cond.fieldLink "StiltTown" (21 : Nat) "StiltTown" "scanner" "LStiltTown$Scanner;") ∈ lw_all := lw_g (lw_at lw_m2 77 rfl) rfl
theorem q476 : (Jvm.Cond.fieldLink "StiltTown" (30 : Nat) "StiltTown" "reader" "LStiltTown$Reader;") ∈ lw_all := lw_g (lw_at lw_m2 78 rfl) rfl
theorem q477 : (Jvm.Cond.fieldLink "StiltTown" (34 : Nat) "StiltTown" "place" "I") ∈ lw_all := lw_g (lw_at lw_m2 79 rfl) rfl
theorem q478 : (Jvm.Cond.fieldLink "StiltTown" (41 : Nat) "StiltTown" "town" "LStiltTown$Town;") ∈ lw_all := lw_g (lw_at lw_m2 80 rfl) rfl
theorem q479 : (Jvm.Cond.fieldLink "StiltTown" (48 : Nat) "StiltTown" "now" "LStiltTown$State;") ∈ lw_all := lw_g (lw_at lw_m2 81 rfl) rfl
theorem q480 : (Jvm.Cond.fieldLink "StiltTown" (52 : Nat) "StiltTown" "slots" "[LStiltTown$State;") ∈ lw_all := lw_g (lw_at lw_m2 82 rfl) rfl
theorem q481 : (Jvm.Cond.fieldLink "StiltTown" (59 : Nat) "StiltTown" "view" "LStiltTown$View;") ∈ lw_all := lw_g (lw_at lw_m2 83 rfl) rfl
theorem q482 : (Jvm.Cond.fieldLink "StiltTown" (66 : Nat) "StiltTown" "trial" "LStiltTown$Kept;") ∈ lw_all := lw_g (lw_at lw_m2 84 rfl) rfl
theorem q483 : (Jvm.Cond.fieldLink "StiltTown" (70 : Nat) "StiltTown" "lots" "[LStiltTown$Kept;") ∈ lw_all := lw_g (lw_at lw_m2 85 rfl) rfl
theorem q484 : (Jvm.Cond.fieldLink "StiltTown" (166 : Nat) "StiltTown" "lotMany" "I") ∈ lw_all := lw_g (lw_at lw_m2 86 rfl) rfl
theorem q485 : (Jvm.Cond.fieldLink "StiltTown" (74 : Nat) "StiltTown" "row" "[I") ∈ lw_all := lw_g (lw_at lw_m2 87 rfl) rfl
theorem q486 : (Jvm.Cond.fieldLink "StiltTown" (169 : Nat) "StiltTown" "rowMany" "I") ∈ lw_all := lw_g (lw_at lw_m2 88 rfl) rfl
theorem q487 : (Jvm.Cond.fieldLink "StiltTown" (80 : Nat) "StiltTown" "pieces" "[[I") ∈ lw_all := lw_g (lw_at lw_m2 89 rfl) rfl
theorem q488 : (Jvm.Cond.fieldLink "StiltTown" (348 : Nat) "StiltTown" "taken" "I") ∈ lw_all := lw_g (lw_at lw_m2 90 rfl) rfl
theorem q489 : (Jvm.Cond.fieldLink "StiltTown" (83 : Nat) "StiltTown" "who" "[I") ∈ lw_all := lw_g (lw_at lw_m2 91 rfl) rfl
theorem q490 : (Jvm.Cond.fieldLink "StiltTown" (86 : Nat) "StiltTown" "due" "[I") ∈ lw_all := lw_g (lw_at lw_m2 92 rfl) rfl
theorem q491 : (Jvm.Cond.fieldLink "StiltTown" (89 : Nat) "StiltTown" "nightsTo" "[B") ∈ lw_all := lw_g (lw_at lw_m2 93 rfl) rfl
theorem q492 : (Jvm.Cond.fieldLink "StiltTown" (93 : Nat) "StiltTown" "isGood" "[Z") ∈ lw_all := lw_g (lw_at lw_m2 94 rfl) rfl
theorem q493 : (Jvm.Cond.fieldLink "StiltTown" (97 : Nat) "StiltTown" "fallsIn" "[I") ∈ lw_all := lw_g (lw_at lw_m2 95 rfl) rfl
theorem q494 : (Jvm.Cond.fieldLink "StiltTown" (100 : Nat) "StiltTown" "posts" "[[I") ∈ lw_all := lw_g (lw_at lw_m2 96 rfl) rfl
theorem q495 : (Jvm.Cond.laysFinal "StiltTown" "StiltTown" "scanner" "LStiltTown$Scanner;") ∈ lw_all := lw_g (lw_at lw_m2 97 rfl) rfl
theorem q496 : (Jvm.Cond.soleField "StiltTown" "scanner") ∈ lw_all := lw_g (lw_at lw_m2 98 rfl) rfl
theorem q497 : (Jvm.Cond.laysFinal "StiltTown" "StiltTown" "reader" "LStiltTown$Reader;") ∈ lw_all := lw_g (lw_at lw_m2 99 rfl) rfl
theorem q498 : (Jvm.Cond.soleField "StiltTown" "reader") ∈ lw_all := lw_g (lw_at lw_m2 100 rfl) rfl
theorem q499 : (Jvm.Cond.lays "StiltTown" "StiltTown" "place" "I") ∈ lw_all := lw_g (lw_at lw_m2 101 rfl) rfl
theorem q500 : (Jvm.Cond.soleField "StiltTown" "place") ∈ lw_all := lw_g (lw_at lw_m2 102 rfl) rfl
theorem q501 : (Jvm.Cond.lays "StiltTown" "StiltTown" "town" "LStiltTown$Town;") ∈ lw_all := lw_g (lw_at lw_m2 103 rfl) rfl
theorem q502 : (Jvm.Cond.soleField "StiltTown" "town") ∈ lw_all := lw_g (lw_at lw_m2 104 rfl) rfl
theorem q503 : (Jvm.Cond.lays "StiltTown" "StiltTown" "now" "LStiltTown$State;") ∈ lw_all := lw_g (lw_at lw_m2 105 rfl) rfl
theorem q504 : (Jvm.Cond.soleField "StiltTown" "now") ∈ lw_all := lw_g (lw_at lw_m2 106 rfl) rfl
theorem q505 : (Jvm.Cond.laysFinal "StiltTown" "StiltTown" "slots" "[LStiltTown$State;") ∈ lw_all := lw_g (lw_at lw_m2 107 rfl) rfl
theorem q506 : (Jvm.Cond.soleField "StiltTown" "slots") ∈ lw_all := lw_g (lw_at lw_m2 108 rfl) rfl
theorem q507 : (Jvm.Cond.laysFinal "StiltTown" "StiltTown" "view" "LStiltTown$View;") ∈ lw_all := lw_g (lw_at lw_m2 109 rfl) rfl
theorem q508 : (Jvm.Cond.soleField "StiltTown" "view") ∈ lw_all := lw_g (lw_at lw_m2 110 rfl) rfl
theorem q509 : (Jvm.Cond.laysFinal "StiltTown" "StiltTown" "trial" "LStiltTown$Kept;") ∈ lw_all := lw_g (lw_at lw_m2 111 rfl) rfl
theorem q510 : (Jvm.Cond.soleField "StiltTown" "trial") ∈ lw_all := lw_g (lw_at lw_m2 112 rfl) rfl
theorem q511 : (Jvm.Cond.laysFinal "StiltTown" "StiltTown" "lots" "[LStiltTown$Kept;") ∈ lw_all := lw_g (lw_at lw_m2 113 rfl) rfl
theorem q512 : (Jvm.Cond.soleField "StiltTown" "lots") ∈ lw_all := lw_g (lw_at lw_m2 114 rfl) rfl
theorem q513 : (Jvm.Cond.lays "StiltTown" "StiltTown" "lotMany" "I") ∈ lw_all := lw_g (lw_at lw_m2 115 rfl) rfl
theorem q514 : (Jvm.Cond.soleField "StiltTown" "lotMany") ∈ lw_all := lw_g (lw_at lw_m2 116 rfl) rfl
theorem q515 : (Jvm.Cond.laysFinal "StiltTown" "StiltTown" "row" "[I") ∈ lw_all := lw_g (lw_at lw_m2 117 rfl) rfl
theorem q516 : (Jvm.Cond.soleField "StiltTown" "row") ∈ lw_all := lw_g (lw_at lw_m2 118 rfl) rfl
theorem q517 : (Jvm.Cond.lays "StiltTown" "StiltTown" "rowMany" "I") ∈ lw_all := lw_g (lw_at lw_m2 119 rfl) rfl
theorem q518 : (Jvm.Cond.soleField "StiltTown" "rowMany") ∈ lw_all := lw_g (lw_at lw_m2 120 rfl) rfl
theorem q519 : (Jvm.Cond.laysFinal "StiltTown" "StiltTown" "pieces" "[[I") ∈ lw_all := lw_g (lw_at lw_m2 121 rfl) rfl
theorem q520 : (Jvm.Cond.soleField "StiltTown" "pieces") ∈ lw_all := lw_g (lw_at lw_m2 122 rfl) rfl
theorem q521 : (Jvm.Cond.lays "StiltTown" "StiltTown" "taken" "I") ∈ lw_all := lw_g (lw_at lw_m2 123 rfl) rfl
theorem q522 : (Jvm.Cond.soleField "StiltTown" "taken") ∈ lw_all := lw_g (lw_at lw_m2 124 rfl) rfl
theorem q523 : (Jvm.Cond.laysFinal "StiltTown" "StiltTown" "who" "[I") ∈ lw_all := lw_g (lw_at lw_m2 125 rfl) rfl
theorem q524 : (Jvm.Cond.soleField "StiltTown" "who") ∈ lw_all := lw_g (lw_at lw_m2 126 rfl) rfl
theorem q525 : (Jvm.Cond.laysFinal "StiltTown" "StiltTown" "due" "[I") ∈ lw_all := lw_g (lw_at lw_m2 127 rfl) rfl
theorem q526 : (Jvm.Cond.soleField "StiltTown" "due") ∈ lw_all := lw_g (lw_at lw_m2 128 rfl) rfl
theorem q527 : (Jvm.Cond.laysFinal "StiltTown" "StiltTown" "nightsTo" "[B") ∈ lw_all := lw_g (lw_at lw_m2 129 rfl) rfl
theorem q528 : (Jvm.Cond.soleField "StiltTown" "nightsTo") ∈ lw_all := lw_g (lw_at lw_m2 130 rfl) rfl
theorem q529 : (Jvm.Cond.laysFinal "StiltTown" "StiltTown" "isGood" "[Z") ∈ lw_all := lw_g (lw_at lw_m2 131 rfl) rfl
theorem q530 : (Jvm.Cond.soleField "StiltTown" "isGood") ∈ lw_all := lw_g (lw_at lw_m2 132 rfl) rfl
theorem q531 : (Jvm.Cond.laysFinal "StiltTown" "StiltTown" "fallsIn" "[I") ∈ lw_all := lw_g (lw_at lw_m2 133 rfl) rfl
theorem q532 : (Jvm.Cond.soleField "StiltTown" "fallsIn") ∈ lw_all := lw_g (lw_at lw_m2 134 rfl) rfl
theorem q533 : (Jvm.Cond.laysFinal "StiltTown" "StiltTown" "posts" "[[I") ∈ lw_all := lw_g (lw_at lw_m2 135 rfl) rfl
theorem q534 : (Jvm.Cond.soleField "StiltTown" "posts") ∈ lw_all := lw_g (lw_at lw_m2 136 rfl) rfl
theorem q535 : (Jvm.Cond.superclass "StiltTown" "java/lang/Object") ∈ lw_all := lw_g (lw_at lw_m2 137 rfl) rfl
theorem q537 : (Jvm.Cond.instanceMethod ({ cls := "StiltTown", name := "feed", desc := "(IIIII)I" } : Jvm.MethodName)) ∈ lw_all := lw_g (lw_at lw_m2 139 rfl) rfl
theorem q538 : (Jvm.Cond.selects "StiltTown" ({ cls := "StiltTown", name := "feed", desc := "(IIIII)I" } : Jvm.MethodName) ({ cls := "StiltTown", name := "feed", desc := "(IIIII)I" } : Jvm.MethodName)) ∈ lw_all := lw_g (lw_at lw_m2 140 rfl) rfl
theorem q539 : (Jvm.Cond.code ({ cls := "StiltTown", name := "feed", desc := "(IIIII)I" } : Jvm.MethodName) prog_1_method_5_code (6 : Nat) (Option.some Jvm.ClassFile.FieldType.int)) ∈ lw_all := lw_g (lw_at lw_m2 141 rfl) rfl
theorem q540 : (Jvm.Cond.methodLink "StiltTown" (106 : Nat) ({ cls := "StiltTown$Scanner", name := "feed", desc := "(IIIII)I" } : Jvm.MethodName)) ∈ lw_all := lw_g (lw_at lw_m2 142 rfl) rfl
theorem q549 : (Jvm.Cond.instanceMethod ({ cls := "StiltTown", name := "back", desc := "(I)I" } : Jvm.MethodName)) ∈ lw_all := lw_g (lw_at lw_m2 151 rfl) rfl
theorem q550 : (Jvm.Cond.selects "StiltTown" ({ cls := "StiltTown", name := "back", desc := "(I)I" } : Jvm.MethodName) ({ cls := "StiltTown", name := "back", desc := "(I)I" } : Jvm.MethodName)) ∈ lw_all := lw_g (lw_at lw_m2 152 rfl) rfl
theorem q551 : (Jvm.Cond.code ({ cls := "StiltTown", name := "back", desc := "(I)I" } : Jvm.MethodName) prog_1_method_6_code (2 : Nat) (Option.some Jvm.ClassFile.FieldType.int)) ∈ lw_all := lw_g (lw_at lw_m2 153 rfl) rfl
theorem q552 : (Jvm.Cond.methodLink "StiltTown" (110 : Nat) ({ cls := "StiltTown$Scanner", name := "back", desc := "(I)I" } : Jvm.MethodName)) ∈ lw_all := lw_g (lw_at lw_m2 154 rfl) rfl
theorem q557 : (Jvm.Cond.static ({ cls := "StiltTown", name := "within", desc := "(III)Z" } : Jvm.MethodName)) ∈ lw_all := lw_g (lw_at lw_m2 159 rfl) rfl
theorem q558 : (Jvm.Cond.code ({ cls := "StiltTown", name := "within", desc := "(III)Z" } : Jvm.MethodName) prog_1_method_1_code (3 : Nat) (Option.some Jvm.ClassFile.FieldType.boolean)) ∈ lw_all := lw_g (lw_at lw_m2 160 rfl) rfl
theorem q560 : (Jvm.Cond.instanceMethod ({ cls := "StiltTown", name := "read", desc := "()I" } : Jvm.MethodName)) ∈ lw_all := lw_g (lw_at lw_m2 162 rfl) rfl
theorem q561 : (Jvm.Cond.selects "StiltTown" ({ cls := "StiltTown", name := "read", desc := "()I" } : Jvm.MethodName) ({ cls := "StiltTown", name := "read", desc := "()I" } : Jvm.MethodName)) ∈ lw_all := lw_g (lw_at lw_m2 163 rfl) rfl
theorem q562 : (Jvm.Cond.codeWith ({ cls := "StiltTown", name := "read", desc := "()I" } : Jvm.MethodName) prog_1_method_7_code (3 : Nat) (Option.some Jvm.ClassFile.FieldType.int) [((12 : Nat), (23 : Nat), (26 : Nat), (121 : Nat))]) ∈ lw_all := lw_g (lw_at lw_m2 164 rfl) rfl
theorem q563 : (Jvm.Cond.classLink "StiltTown" (121 : Nat) "StiltTown$Fault") ∈ lw_all := lw_g (lw_at lw_m2 165 rfl) rfl
theorem q564 : (Jvm.Cond.methodLink "StiltTown" (114 : Nat) ({ cls := "StiltTown$Scanner", name := "cut", desc := "()V" } : Jvm.MethodName)) ∈ lw_all := lw_g (lw_at lw_m2 166 rfl) rfl
theorem q650 : (Jvm.Cond.methodLink "StiltTown" (117 : Nat) ({ cls := "StiltTown$Reader", name := "read", desc := "()LStiltTown$Town;" } : Jvm.MethodName)) ∈ lw_all := lw_g (lw_at lw_m3 12 rfl) rfl
theorem q732 : (Jvm.Cond.fieldLinkNest "StiltTown" (124 : Nat) "StiltTown$Fault" "kind" "I" "StiltTown") ∈ lw_tbl := lw_at lw_m3 94 rfl
theorem q734 : (Jvm.Cond.fieldLinkNest "StiltTown" (123 : Nat) "StiltTown$Fault" "place" "I" "StiltTown") ∈ lw_tbl := lw_at lw_m3 96 rfl
theorem q784 : (Jvm.Cond.fieldLinkNest "StiltTown" (196 : Nat) "StiltTown$House" "x" "I" "StiltTown") ∈ lw_tbl := lw_at lw_m3 146 rfl
theorem q786 : (Jvm.Cond.fieldLinkNest "StiltTown" (146 : Nat) "StiltTown$House" "height" "I" "StiltTown") ∈ lw_tbl := lw_at lw_m3 148 rfl
theorem q788 : (Jvm.Cond.fieldLinkNest "StiltTown" (193 : Nat) "StiltTown$House" "load" "I" "StiltTown") ∈ lw_tbl := lw_at lw_m3 150 rfl
theorem q828 : (Jvm.Cond.selects "StiltTown" ({ cls := "java/lang/Object", name := "getClass", desc := "()Ljava/lang/Class;" } : Jvm.MethodName) ({ cls := "java/lang/Object", name := "getClass", desc := "()Ljava/lang/Class;" } : Jvm.MethodName)) ∈ lw_all := lw_g (lw_at lw_m3 190 rfl) rfl
theorem q869 : (Jvm.Cond.static ({ cls := "StiltTown", name := "gives", desc := "([III)V" } : Jvm.MethodName)) ∈ lw_all := lw_g (lw_at lw_m3 231 rfl) rfl
theorem q870 : (Jvm.Cond.code ({ cls := "StiltTown", name := "gives", desc := "([III)V" } : Jvm.MethodName) prog_1_method_3_code (4 : Nat) (Option.none : Option Jvm.ClassFile.FieldType)) ∈ lw_all := lw_g (lw_at lw_m3 232 rfl) rfl
theorem q882 : (Jvm.Cond.fieldLinkNest "StiltTown" (247 : Nat) "StiltTown$Stair" "from" "I" "StiltTown") ∈ lw_tbl := lw_at lw_m4 4 rfl
theorem q884 : (Jvm.Cond.fieldLinkNest "StiltTown" (242 : Nat) "StiltTown$Stair" "to" "I" "StiltTown") ∈ lw_tbl := lw_at lw_m4 6 rfl
theorem q886 : (Jvm.Cond.fieldLinkNest "StiltTown" (253 : Nat) "StiltTown$Stair" "reach" "I" "StiltTown") ∈ lw_tbl := lw_at lw_m4 8 rfl
theorem q901 : (Jvm.Cond.fieldLinkNest "StiltTown" (314 : Nat) "StiltTown$Wood" "length" "I" "StiltTown") ∈ lw_tbl := lw_at lw_m4 23 rfl
theorem q903 : (Jvm.Cond.fieldLinkNest "StiltTown" (163 : Nat) "StiltTown$Wood" "many" "I" "StiltTown") ∈ lw_tbl := lw_at lw_m4 25 rfl
theorem q1006 : (Jvm.Cond.methodLink "StiltTown" (131 : Nat) ({ cls := "java/util/ArrayList", name := "size", desc := "()I" } : Jvm.MethodName)) ∈ lw_all := lw_g (lw_at lw_m4 128 rfl) rfl
theorem q1007 : (Jvm.Cond.methodLink "StiltTown" (140 : Nat) ({ cls := "java/util/ArrayList", name := "get", desc := "(I)Ljava/lang/Object;" } : Jvm.MethodName)) ∈ lw_all := lw_g (lw_at lw_m4 129 rfl) rfl
theorem q1019 : (Jvm.Cond.classLink "StiltTown" (144 : Nat) "StiltTown$House") ∈ lw_all := lw_g (lw_at lw_m4 141 rfl) rfl
theorem q1020 : (Jvm.Cond.methodLink "StiltTown" (149 : Nat) ({ cls := "java/lang/System", name := "arraycopy", desc := "(Ljava/lang/Object;ILjava/lang/Object;II)V" } : Jvm.MethodName)) ∈ lw_all := lw_g (lw_at lw_m4 142 rfl) rfl
theorem q1021 : (Jvm.Cond.classLink "StiltTown" (161 : Nat) "StiltTown$Wood") ∈ lw_all := lw_g (lw_at lw_m4 143 rfl) rfl
theorem q1023 : (Jvm.Cond.instanceMethod ({ cls := "StiltTown", name := "place", desc := "()I" } : Jvm.MethodName)) ∈ lw_all := lw_g (lw_at lw_m4 145 rfl) rfl
theorem q1024 : (Jvm.Cond.selects "StiltTown" ({ cls := "StiltTown", name := "place", desc := "()I" } : Jvm.MethodName) ({ cls := "StiltTown", name := "place", desc := "()I" } : Jvm.MethodName)) ∈ lw_all := lw_g (lw_at lw_m4 146 rfl) rfl
theorem q1025 : (Jvm.Cond.code ({ cls := "StiltTown", name := "place", desc := "()I" } : Jvm.MethodName) prog_1_method_8_code (1 : Nat) (Option.some Jvm.ClassFile.FieldType.int)) ∈ lw_all := lw_g (lw_at lw_m4 147 rfl) rfl
theorem q1027 : (Jvm.Cond.instanceMethod ({ cls := "StiltTown", name := "house", desc := "(II)I" } : Jvm.MethodName)) ∈ lw_all := lw_g (lw_at lw_m4 149 rfl) rfl
theorem q1028 : (Jvm.Cond.selects "StiltTown" ({ cls := "StiltTown", name := "house", desc := "(II)I" } : Jvm.MethodName) ({ cls := "StiltTown", name := "house", desc := "(II)I" } : Jvm.MethodName)) ∈ lw_all := lw_g (lw_at lw_m4 150 rfl) rfl
theorem q1029 : (Jvm.Cond.code ({ cls := "StiltTown", name := "house", desc := "(II)I" } : Jvm.MethodName) prog_1_method_16_code (3 : Nat) (Option.some Jvm.ClassFile.FieldType.int)) ∈ lw_all := lw_g (lw_at lw_m4 151 rfl) rfl
theorem q1030 : (Jvm.Cond.methodLink "StiltTown" (210 : Nat) ({ cls := "StiltTown", name := "isHouse", desc := "(I)Z" } : Jvm.MethodName)) ∈ lw_all := lw_g (lw_at lw_m4 152 rfl) rfl
theorem q1031 : (Jvm.Cond.privateMethod ({ cls := "StiltTown", name := "isHouse", desc := "(I)Z" } : Jvm.MethodName)) ∈ lw_tbl := lw_at lw_m4 153 rfl
theorem q1032 : (Jvm.Cond.instanceMethod ({ cls := "StiltTown", name := "isHouse", desc := "(I)Z" } : Jvm.MethodName)) ∈ lw_all := lw_g (lw_at lw_m4 154 rfl) rfl
theorem q1033 : (Jvm.Cond.code ({ cls := "StiltTown", name := "isHouse", desc := "(I)Z" } : Jvm.MethodName) prog_1_method_10_code (2 : Nat) (Option.some Jvm.ClassFile.FieldType.boolean)) ∈ lw_all := lw_g (lw_at lw_m4 155 rfl) rfl
theorem q1034 : (Jvm.Cond.methodLink "StiltTown" (172 : Nat) ({ cls := "StiltTown", name := "houses", desc := "()I" } : Jvm.MethodName)) ∈ lw_all := lw_g (lw_at lw_m4 156 rfl) rfl
theorem q1035 : (Jvm.Cond.privateMethod ({ cls := "StiltTown", name := "houses", desc := "()I" } : Jvm.MethodName)) ∈ lw_tbl := lw_at lw_m4 157 rfl
theorem q1036 : (Jvm.Cond.instanceMethod ({ cls := "StiltTown", name := "houses", desc := "()I" } : Jvm.MethodName)) ∈ lw_all := lw_g (lw_at lw_m4 158 rfl) rfl
theorem q1037 : (Jvm.Cond.code ({ cls := "StiltTown", name := "houses", desc := "()I" } : Jvm.MethodName) prog_1_method_9_code (1 : Nat) (Option.some Jvm.ClassFile.FieldType.int)) ∈ lw_all := lw_g (lw_at lw_m4 159 rfl) rfl
theorem q1038 : (Jvm.Cond.methodLink "StiltTown" (174 : Nat) ({ cls := "StiltTown", name := "within", desc := "(III)Z" } : Jvm.MethodName)) ∈ lw_all := lw_g (lw_at lw_m4 160 rfl) rfl
theorem q1039 : (Jvm.Cond.methodLink "StiltTown" (190 : Nat) ({ cls := "StiltTown", name := "rankOf", desc := "(I)I" } : Jvm.MethodName)) ∈ lw_all := lw_g (lw_at lw_m4 161 rfl) rfl
theorem q1040 : (Jvm.Cond.privateMethod ({ cls := "StiltTown", name := "rankOf", desc := "(I)I" } : Jvm.MethodName)) ∈ lw_tbl := lw_at lw_m4 162 rfl
theorem q1041 : (Jvm.Cond.instanceMethod ({ cls := "StiltTown", name := "rankOf", desc := "(I)I" } : Jvm.MethodName)) ∈ lw_all := lw_g (lw_at lw_m4 163 rfl) rfl
theorem q1042 : (Jvm.Cond.code ({ cls := "StiltTown", name := "rankOf", desc := "(I)I" } : Jvm.MethodName) prog_1_method_13_code (2 : Nat) (Option.some Jvm.ClassFile.FieldType.int)) ∈ lw_all := lw_g (lw_at lw_m4 164 rfl) rfl
theorem q1043 : (Jvm.Cond.methodLink "StiltTown" (214 : Nat) ({ cls := "StiltTown", name := "dueOf", desc := "(I)I" } : Jvm.MethodName)) ∈ lw_all := lw_g (lw_at lw_m4 165 rfl) rfl
theorem q1044 : (Jvm.Cond.privateMethod ({ cls := "StiltTown", name := "dueOf", desc := "(I)I" } : Jvm.MethodName)) ∈ lw_tbl := lw_at lw_m4 166 rfl
theorem q1045 : (Jvm.Cond.instanceMethod ({ cls := "StiltTown", name := "dueOf", desc := "(I)I" } : Jvm.MethodName)) ∈ lw_all := lw_g (lw_at lw_m4 167 rfl) rfl
theorem q1046 : (Jvm.Cond.code ({ cls := "StiltTown", name := "dueOf", desc := "(I)I" } : Jvm.MethodName) prog_1_method_15_code (2 : Nat) (Option.some Jvm.ClassFile.FieldType.int)) ∈ lw_all := lw_g (lw_at lw_m4 168 rfl) rfl
theorem q1047 : (Jvm.Cond.methodLink "StiltTown" (199 : Nat) ({ cls := "StiltTown", name := "look", desc := "(I)V" } : Jvm.MethodName)) ∈ lw_all := lw_g (lw_at lw_m4 169 rfl) rfl
theorem q1048 : (Jvm.Cond.privateMethod ({ cls := "StiltTown", name := "look", desc := "(I)V" } : Jvm.MethodName)) ∈ lw_tbl := lw_at lw_m4 170 rfl
theorem q1049 : (Jvm.Cond.instanceMethod ({ cls := "StiltTown", name := "look", desc := "(I)V" } : Jvm.MethodName)) ∈ lw_all := lw_g (lw_at lw_m4 171 rfl) rfl
theorem q1050 : (Jvm.Cond.code ({ cls := "StiltTown", name := "look", desc := "(I)V" } : Jvm.MethodName) prog_1_method_14_code (2 : Nat) (Option.none : Option Jvm.ClassFile.FieldType)) ∈ lw_all := lw_g (lw_at lw_m4 172 rfl) rfl
theorem q1051 : (Jvm.Cond.methodLink "StiltTown" (184 : Nat) ({ cls := "StiltTown$View", name := "clear", desc := "()V" } : Jvm.MethodName)) ∈ lw_all := lw_g (lw_at lw_m4 173 rfl) rfl
theorem q1055 : (Jvm.Cond.methodLink "StiltTown" (206 : Nat) ({ cls := "StiltTown$View", name := "says", desc := "(LStiltTown$Term;I)I" } : Jvm.MethodName)) ∈ lw_all := lw_g (lw_at lw_m4 177 rfl) rfl
theorem q1084 : (Jvm.Cond.static ({ cls := "StiltTown", name := "held", desc := "(II)I" } : Jvm.MethodName)) ∈ lw_all := lw_g (lw_at lw_m4 206 rfl) rfl
theorem q1085 : (Jvm.Cond.code ({ cls := "StiltTown", name := "held", desc := "(II)I" } : Jvm.MethodName) prog_1_method_2_code (2 : Nat) (Option.some Jvm.ClassFile.FieldType.int)) ∈ lw_all := lw_g (lw_at lw_m4 207 rfl) rfl
theorem q1086 : (Jvm.Cond.methodLink "StiltTown" (1 : Nat) ({ cls := "java/lang/Math", name := "max", desc := "(II)I" } : Jvm.MethodName)) ∈ lw_all := lw_g (lw_at lw_m4 208 rfl) rfl
theorem q1087 : (Jvm.Cond.methodLink "StiltTown" (7 : Nat) ({ cls := "java/lang/Math", name := "min", desc := "(II)I" } : Jvm.MethodName)) ∈ lw_all := lw_g (lw_at lw_m4 209 rfl) rfl
theorem q1089 : (Jvm.Cond.instanceMethod ({ cls := "StiltTown", name := "give", desc := "(II)Z" } : Jvm.MethodName)) ∈ lw_all := lw_g (lw_at lw_m4 211 rfl) rfl
theorem q1090 : (Jvm.Cond.selects "StiltTown" ({ cls := "StiltTown", name := "give", desc := "(II)Z" } : Jvm.MethodName) ({ cls := "StiltTown", name := "give", desc := "(II)Z" } : Jvm.MethodName)) ∈ lw_all := lw_g (lw_at lw_m4 212 rfl) rfl
theorem q1091 : (Jvm.Cond.code ({ cls := "StiltTown", name := "give", desc := "(II)Z" } : Jvm.MethodName) prog_1_method_17_code (3 : Nat) (Option.some Jvm.ClassFile.FieldType.boolean)) ∈ lw_all := lw_g (lw_at lw_m4 213 rfl) rfl
theorem q1092 : (Jvm.Cond.methodLink "StiltTown" (217 : Nat) ({ cls := "StiltTown", name := "isOffice", desc := "(I)Z" } : Jvm.MethodName)) ∈ lw_all := lw_g (lw_at lw_m4 214 rfl) rfl
theorem q1093 : (Jvm.Cond.privateMethod ({ cls := "StiltTown", name := "isOffice", desc := "(I)Z" } : Jvm.MethodName)) ∈ lw_tbl := lw_at lw_m4 215 rfl
theorem q1094 : (Jvm.Cond.instanceMethod ({ cls := "StiltTown", name := "isOffice", desc := "(I)Z" } : Jvm.MethodName)) ∈ lw_all := lw_g (lw_at lw_m4 216 rfl) rfl
theorem q1095 : (Jvm.Cond.code ({ cls := "StiltTown", name := "isOffice", desc := "(I)Z" } : Jvm.MethodName) prog_1_method_11_code (2 : Nat) (Option.some Jvm.ClassFile.FieldType.boolean)) ∈ lw_all := lw_g (lw_at lw_m4 217 rfl) rfl
theorem q1096 : (Jvm.Cond.methodLink "StiltTown" (220 : Nat) ({ cls := "StiltTown", name := "gives", desc := "([III)V" } : Jvm.MethodName)) ∈ lw_all := lw_g (lw_at lw_m4 218 rfl) rfl
theorem q1098 : (Jvm.Cond.instanceMethod ({ cls := "StiltTown", name := "holder", desc := "(I)I" } : Jvm.MethodName)) ∈ lw_all := lw_g (lw_at lw_m4 220 rfl) rfl
theorem q1099 : (Jvm.Cond.selects "StiltTown" ({ cls := "StiltTown", name := "holder", desc := "(I)I" } : Jvm.MethodName) ({ cls := "StiltTown", name := "holder", desc := "(I)I" } : Jvm.MethodName)) ∈ lw_all := lw_g (lw_at lw_m4 221 rfl) rfl
theorem q1100 : (Jvm.Cond.code ({ cls := "StiltTown", name := "holder", desc := "(I)I" } : Jvm.MethodName) prog_1_method_19_code (2 : Nat) (Option.some Jvm.ClassFile.FieldType.int)) ∈ lw_all := lw_g (lw_at lw_m4 222 rfl) rfl
theorem q1101 : (Jvm.Cond.methodLink "StiltTown" (224 : Nat) ({ cls := "StiltTown", name := "holderOf", desc := "(I)I" } : Jvm.MethodName)) ∈ lw_all := lw_g (lw_at lw_m4 223 rfl) rfl
theorem q1102 : (Jvm.Cond.privateMethod ({ cls := "StiltTown", name := "holderOf", desc := "(I)I" } : Jvm.MethodName)) ∈ lw_tbl := lw_at lw_m4 224 rfl
theorem q1103 : (Jvm.Cond.instanceMethod ({ cls := "StiltTown", name := "holderOf", desc := "(I)I" } : Jvm.MethodName)) ∈ lw_all := lw_g (lw_at lw_m4 225 rfl) rfl
theorem q1104 : (Jvm.Cond.code ({ cls := "StiltTown", name := "holderOf", desc := "(I)I" } : Jvm.MethodName) prog_1_method_18_code (3 : Nat) (Option.some Jvm.ClassFile.FieldType.int)) ∈ lw_all := lw_g (lw_at lw_m4 226 rfl) rfl
theorem q1106 : (Jvm.Cond.instanceMethod ({ cls := "StiltTown", name := "months", desc := "(I)I" } : Jvm.MethodName)) ∈ lw_all := lw_g (lw_at lw_m4 228 rfl) rfl
theorem q1107 : (Jvm.Cond.selects "StiltTown" ({ cls := "StiltTown", name := "months", desc := "(I)I" } : Jvm.MethodName) ({ cls := "StiltTown", name := "months", desc := "(I)I" } : Jvm.MethodName)) ∈ lw_all := lw_g (lw_at lw_m4 229 rfl) rfl
theorem q1108 : (Jvm.Cond.code ({ cls := "StiltTown", name := "months", desc := "(I)I" } : Jvm.MethodName) prog_1_method_20_code (2 : Nat) (Option.some Jvm.ClassFile.FieldType.int)) ∈ lw_all := lw_g (lw_at lw_m4 230 rfl) rfl
theorem q1110 : (Jvm.Cond.instanceMethod ({ cls := "StiltTown", name := "tide", desc := "(I)I" } : Jvm.MethodName)) ∈ lw_all := lw_g (lw_at lw_m4 232 rfl) rfl
theorem q1111 : (Jvm.Cond.selects "StiltTown" ({ cls := "StiltTown", name := "tide", desc := "(I)I" } : Jvm.MethodName) ({ cls := "StiltTown", name := "tide", desc := "(I)I" } : Jvm.MethodName)) ∈ lw_all := lw_g (lw_at lw_m4 233 rfl) rfl
theorem q1112 : (Jvm.Cond.code ({ cls := "StiltTown", name := "tide", desc := "(I)I" } : Jvm.MethodName) prog_1_method_22_code (2 : Nat) (Option.some Jvm.ClassFile.FieldType.int)) ∈ lw_all := lw_g (lw_at lw_m4 234 rfl) rfl
theorem q1113 : (Jvm.Cond.methodLink "StiltTown" (233 : Nat) ({ cls := "StiltTown", name := "isHour", desc := "(I)Z" } : Jvm.MethodName)) ∈ lw_all := lw_g (lw_at lw_m4 235 rfl) rfl
theorem q1114 : (Jvm.Cond.static ({ cls := "StiltTown", name := "isHour", desc := "(I)Z" } : Jvm.MethodName)) ∈ lw_all := lw_g (lw_at lw_m4 236 rfl) rfl
theorem q1115 : (Jvm.Cond.code ({ cls := "StiltTown", name := "isHour", desc := "(I)Z" } : Jvm.MethodName) prog_1_method_12_code (1 : Nat) (Option.some Jvm.ClassFile.FieldType.boolean)) ∈ lw_all := lw_g (lw_at lw_m4 237 rfl) rfl
theorem q1116 : (Jvm.Cond.methodLink "StiltTown" (236 : Nat) ({ cls := "StiltTown", name := "tideAt", desc := "(I)I" } : Jvm.MethodName)) ∈ lw_all := lw_g (lw_at lw_m4 238 rfl) rfl
theorem q1117 : (Jvm.Cond.privateMethod ({ cls := "StiltTown", name := "tideAt", desc := "(I)I" } : Jvm.MethodName)) ∈ lw_tbl := lw_at lw_m4 239 rfl
theorem q1118 : (Jvm.Cond.instanceMethod ({ cls := "StiltTown", name := "tideAt", desc := "(I)I" } : Jvm.MethodName)) ∈ lw_all := lw_g (lw_at lw_m5 0 rfl) rfl
theorem q1119 : (Jvm.Cond.code ({ cls := "StiltTown", name := "tideAt", desc := "(I)I" } : Jvm.MethodName) prog_1_method_21_code (2 : Nat) (Option.some Jvm.ClassFile.FieldType.int)) ∈ lw_all := lw_g (lw_at lw_m5 1 rfl) rfl
theorem q1121 : (Jvm.Cond.instanceMethod ({ cls := "StiltTown", name := "wet", desc := "(I)I" } : Jvm.MethodName)) ∈ lw_all := lw_g (lw_at lw_m5 3 rfl) rfl
theorem q1122 : (Jvm.Cond.selects "StiltTown" ({ cls := "StiltTown", name := "wet", desc := "(I)I" } : Jvm.MethodName) ({ cls := "StiltTown", name := "wet", desc := "(I)I" } : Jvm.MethodName)) ∈ lw_all := lw_g (lw_at lw_m5 4 rfl) rfl
theorem q1123 : (Jvm.Cond.code ({ cls := "StiltTown", name := "wet", desc := "(I)I" } : Jvm.MethodName) prog_1_method_24_code (2 : Nat) (Option.some Jvm.ClassFile.FieldType.int)) ∈ lw_all := lw_g (lw_at lw_m5 5 rfl) rfl
theorem q1124 : (Jvm.Cond.methodLink "StiltTown" (239 : Nat) ({ cls := "StiltTown", name := "wetBy", desc := "(I)I" } : Jvm.MethodName)) ∈ lw_all := lw_g (lw_at lw_m5 6 rfl) rfl
theorem q1125 : (Jvm.Cond.privateMethod ({ cls := "StiltTown", name := "wetBy", desc := "(I)I" } : Jvm.MethodName)) ∈ lw_tbl := lw_at lw_m5 7 rfl
theorem q1126 : (Jvm.Cond.instanceMethod ({ cls := "StiltTown", name := "wetBy", desc := "(I)I" } : Jvm.MethodName)) ∈ lw_all := lw_g (lw_at lw_m5 8 rfl) rfl
theorem q1127 : (Jvm.Cond.code ({ cls := "StiltTown", name := "wetBy", desc := "(I)I" } : Jvm.MethodName) prog_1_method_23_code (4 : Nat) (Option.some Jvm.ClassFile.FieldType.int)) ∈ lw_all := lw_g (lw_at lw_m5 9 rfl) rfl
theorem q1129 : (Jvm.Cond.instanceMethod ({ cls := "StiltTown", name := "meets", desc := "(I)I" } : Jvm.MethodName)) ∈ lw_all := lw_g (lw_at lw_m5 11 rfl) rfl
theorem q1130 : (Jvm.Cond.selects "StiltTown" ({ cls := "StiltTown", name := "meets", desc := "(I)I" } : Jvm.MethodName) ({ cls := "StiltTown", name := "meets", desc := "(I)I" } : Jvm.MethodName)) ∈ lw_all := lw_g (lw_at lw_m5 12 rfl) rfl
theorem q1131 : (Jvm.Cond.code ({ cls := "StiltTown", name := "meets", desc := "(I)I" } : Jvm.MethodName) prog_1_method_26_code (2 : Nat) (Option.some Jvm.ClassFile.FieldType.int)) ∈ lw_all := lw_g (lw_at lw_m5 13 rfl) rfl
theorem q1132 : (Jvm.Cond.classLink "StiltTown" (243 : Nat) "StiltTown$Stair") ∈ lw_all := lw_g (lw_at lw_m5 14 rfl) rfl
theorem q1133 : (Jvm.Cond.methodLink "StiltTown" (259 : Nat) ({ cls := "StiltTown", name := "meets", desc := "(LStiltTown$Stair;)Z" } : Jvm.MethodName)) ∈ lw_all := lw_g (lw_at lw_m5 15 rfl) rfl
theorem q1134 : (Jvm.Cond.privateMethod ({ cls := "StiltTown", name := "meets", desc := "(LStiltTown$Stair;)Z" } : Jvm.MethodName)) ∈ lw_tbl := lw_at lw_m5 16 rfl
theorem q1135 : (Jvm.Cond.instanceMethod ({ cls := "StiltTown", name := "meets", desc := "(LStiltTown$Stair;)Z" } : Jvm.MethodName)) ∈ lw_all := lw_g (lw_at lw_m5 17 rfl) rfl
theorem q1136 : (Jvm.Cond.code ({ cls := "StiltTown", name := "meets", desc := "(LStiltTown$Stair;)Z" } : Jvm.MethodName) prog_1_method_25_code (3 : Nat) (Option.some Jvm.ClassFile.FieldType.boolean)) ∈ lw_all := lw_g (lw_at lw_m5 18 rfl) rfl
theorem q1137 : (Jvm.Cond.methodLink "StiltTown" (250 : Nat) ({ cls := "java/lang/Math", name := "abs", desc := "(I)I" } : Jvm.MethodName)) ∈ lw_all := lw_g (lw_at lw_m5 19 rfl) rfl
theorem q1141 : (Jvm.Cond.instanceMethod ({ cls := "StiltTown", name := "reached", desc := "(I)I" } : Jvm.MethodName)) ∈ lw_all := lw_g (lw_at lw_m5 23 rfl) rfl
theorem q1142 : (Jvm.Cond.selects "StiltTown" ({ cls := "StiltTown", name := "reached", desc := "(I)I" } : Jvm.MethodName) ({ cls := "StiltTown", name := "reached", desc := "(I)I" } : Jvm.MethodName)) ∈ lw_all := lw_g (lw_at lw_m5 24 rfl) rfl
theorem q1143 : (Jvm.Cond.code ({ cls := "StiltTown", name := "reached", desc := "(I)I" } : Jvm.MethodName) prog_1_method_30_code (2 : Nat) (Option.some Jvm.ClassFile.FieldType.int)) ∈ lw_all := lw_g (lw_at lw_m5 25 rfl) rfl
theorem q1144 : (Jvm.Cond.methodLink "StiltTown" (274 : Nat) ({ cls := "StiltTown", name := "reachedAt", desc := "(I)I" } : Jvm.MethodName)) ∈ lw_all := lw_g (lw_at lw_m5 26 rfl) rfl
theorem q1145 : (Jvm.Cond.privateMethod ({ cls := "StiltTown", name := "reachedAt", desc := "(I)I" } : Jvm.MethodName)) ∈ lw_tbl := lw_at lw_m5 27 rfl
theorem q1146 : (Jvm.Cond.instanceMethod ({ cls := "StiltTown", name := "reachedAt", desc := "(I)I" } : Jvm.MethodName)) ∈ lw_all := lw_g (lw_at lw_m5 28 rfl) rfl
theorem q1147 : (Jvm.Cond.code ({ cls := "StiltTown", name := "reachedAt", desc := "(I)I" } : Jvm.MethodName) prog_1_method_29_code (2 : Nat) (Option.some Jvm.ClassFile.FieldType.int)) ∈ lw_all := lw_g (lw_at lw_m5 29 rfl) rfl
theorem q1148 : (Jvm.Cond.methodLink "StiltTown" (270 : Nat) ({ cls := "StiltTown", name := "reachedBy", desc := "(III)I" } : Jvm.MethodName)) ∈ lw_all := lw_g (lw_at lw_m5 30 rfl) rfl
theorem q1149 : (Jvm.Cond.privateMethod ({ cls := "StiltTown", name := "reachedBy", desc := "(III)I" } : Jvm.MethodName)) ∈ lw_tbl := lw_at lw_m5 31 rfl
theorem q1150 : (Jvm.Cond.instanceMethod ({ cls := "StiltTown", name := "reachedBy", desc := "(III)I" } : Jvm.MethodName)) ∈ lw_all := lw_g (lw_at lw_m5 32 rfl) rfl
theorem q1151 : (Jvm.Cond.code ({ cls := "StiltTown", name := "reachedBy", desc := "(III)I" } : Jvm.MethodName) prog_1_method_27_code (8 : Nat) (Option.some Jvm.ClassFile.FieldType.int)) ∈ lw_all := lw_g (lw_at lw_m5 33 rfl) rfl
theorem q1152 : (Jvm.Cond.methodLink "StiltTown" (266 : Nat) ({ cls := "StiltTown", name := "beyond", desc := "(LStiltTown$Stair;II)I" } : Jvm.MethodName)) ∈ lw_all := lw_g (lw_at lw_m5 34 rfl) rfl
theorem q1153 : (Jvm.Cond.privateMethod ({ cls := "StiltTown", name := "beyond", desc := "(LStiltTown$Stair;II)I" } : Jvm.MethodName)) ∈ lw_tbl := lw_at lw_m5 35 rfl
theorem q1154 : (Jvm.Cond.instanceMethod ({ cls := "StiltTown", name := "beyond", desc := "(LStiltTown$Stair;II)I" } : Jvm.MethodName)) ∈ lw_all := lw_g (lw_at lw_m5 36 rfl) rfl
theorem q1155 : (Jvm.Cond.code ({ cls := "StiltTown", name := "beyond", desc := "(LStiltTown$Stair;II)I" } : Jvm.MethodName) prog_1_method_28_code (4 : Nat) (Option.some Jvm.ClassFile.FieldType.int)) ∈ lw_all := lw_g (lw_at lw_m5 37 rfl) rfl
theorem q1157 : (Jvm.Cond.instanceMethod ({ cls := "StiltTown", name := "hours", desc := "(I)I" } : Jvm.MethodName)) ∈ lw_all := lw_g (lw_at lw_m5 39 rfl) rfl
theorem q1158 : (Jvm.Cond.selects "StiltTown" ({ cls := "StiltTown", name := "hours", desc := "(I)I" } : Jvm.MethodName) ({ cls := "StiltTown", name := "hours", desc := "(I)I" } : Jvm.MethodName)) ∈ lw_all := lw_g (lw_at lw_m5 40 rfl) rfl
theorem q1159 : (Jvm.Cond.code ({ cls := "StiltTown", name := "hours", desc := "(I)I" } : Jvm.MethodName) prog_1_method_31_code (4 : Nat) (Option.some Jvm.ClassFile.FieldType.int)) ∈ lw_all := lw_g (lw_at lw_m5 41 rfl) rfl
theorem q1161 : (Jvm.Cond.instanceMethod ({ cls := "StiltTown", name := "cut", desc := "(IZI)I" } : Jvm.MethodName)) ∈ lw_all := lw_g (lw_at lw_m5 43 rfl) rfl
theorem q1162 : (Jvm.Cond.selects "StiltTown" ({ cls := "StiltTown", name := "cut", desc := "(IZI)I" } : Jvm.MethodName) ({ cls := "StiltTown", name := "cut", desc := "(IZI)I" } : Jvm.MethodName)) ∈ lw_all := lw_g (lw_at lw_m5 44 rfl) rfl
theorem q1163 : (Jvm.Cond.code ({ cls := "StiltTown", name := "cut", desc := "(IZI)I" } : Jvm.MethodName) prog_1_method_33_code (4 : Nat) (Option.some Jvm.ClassFile.FieldType.int)) ∈ lw_all := lw_g (lw_at lw_m5 45 rfl) rfl
theorem q1164 : (Jvm.Cond.methodLink "StiltTown" (282 : Nat) ({ cls := "StiltTown", name := "cutBy", desc := "(IZI)I" } : Jvm.MethodName)) ∈ lw_all := lw_g (lw_at lw_m5 46 rfl) rfl
theorem q1165 : (Jvm.Cond.privateMethod ({ cls := "StiltTown", name := "cutBy", desc := "(IZI)I" } : Jvm.MethodName)) ∈ lw_tbl := lw_at lw_m5 47 rfl
theorem q1166 : (Jvm.Cond.instanceMethod ({ cls := "StiltTown", name := "cutBy", desc := "(IZI)I" } : Jvm.MethodName)) ∈ lw_all := lw_g (lw_at lw_m5 48 rfl) rfl
theorem q1167 : (Jvm.Cond.code ({ cls := "StiltTown", name := "cutBy", desc := "(IZI)I" } : Jvm.MethodName) prog_1_method_32_code (7 : Nat) (Option.some Jvm.ClassFile.FieldType.int)) ∈ lw_all := lw_g (lw_at lw_m5 49 rfl) rfl
theorem q1168 : (Jvm.Cond.methodLink "StiltTown" (277 : Nat) ({ cls := "java/lang/Integer", name := "bitCount", desc := "(I)I" } : Jvm.MethodName)) ∈ lw_all := lw_g (lw_at lw_m5 50 rfl) rfl
theorem q1175 : (Jvm.Cond.instanceMethod ({ cls := "StiltTown", name := "worst", desc := "(ZI)I" } : Jvm.MethodName)) ∈ lw_all := lw_g (lw_at lw_m5 57 rfl) rfl
theorem q1176 : (Jvm.Cond.selects "StiltTown" ({ cls := "StiltTown", name := "worst", desc := "(ZI)I" } : Jvm.MethodName) ({ cls := "StiltTown", name := "worst", desc := "(ZI)I" } : Jvm.MethodName)) ∈ lw_all := lw_g (lw_at lw_m5 58 rfl) rfl
theorem q1177 : (Jvm.Cond.code ({ cls := "StiltTown", name := "worst", desc := "(ZI)I" } : Jvm.MethodName) prog_1_method_34_code (8 : Nat) (Option.some Jvm.ClassFile.FieldType.int)) ∈ lw_all := lw_g (lw_at lw_m5 59 rfl) rfl
theorem q1179 : (Jvm.Cond.instanceMethod ({ cls := "StiltTown", name := "law", desc := "(I)I" } : Jvm.MethodName)) ∈ lw_all := lw_g (lw_at lw_m5 61 rfl) rfl
theorem q1180 : (Jvm.Cond.selects "StiltTown" ({ cls := "StiltTown", name := "law", desc := "(I)I" } : Jvm.MethodName) ({ cls := "StiltTown", name := "law", desc := "(I)I" } : Jvm.MethodName)) ∈ lw_all := lw_g (lw_at lw_m5 62 rfl) rfl
theorem q1181 : (Jvm.Cond.code ({ cls := "StiltTown", name := "law", desc := "(I)I" } : Jvm.MethodName) prog_1_method_40_code (2 : Nat) (Option.some Jvm.ClassFile.FieldType.int)) ∈ lw_all := lw_g (lw_at lw_m5 63 rfl) rfl
theorem q1182 : (Jvm.Cond.methodLink "StiltTown" (304 : Nat) ({ cls := "StiltTown", name := "untrue", desc := "()I" } : Jvm.MethodName)) ∈ lw_all := lw_g (lw_at lw_m5 64 rfl) rfl
theorem q1183 : (Jvm.Cond.privateMethod ({ cls := "StiltTown", name := "untrue", desc := "()I" } : Jvm.MethodName)) ∈ lw_tbl := lw_at lw_m5 65 rfl
theorem q1184 : (Jvm.Cond.instanceMethod ({ cls := "StiltTown", name := "untrue", desc := "()I" } : Jvm.MethodName)) ∈ lw_all := lw_g (lw_at lw_m5 66 rfl) rfl
theorem q1185 : (Jvm.Cond.code ({ cls := "StiltTown", name := "untrue", desc := "()I" } : Jvm.MethodName) prog_1_method_35_code (3 : Nat) (Option.some Jvm.ClassFile.FieldType.int)) ∈ lw_all := lw_g (lw_at lw_m5 67 rfl) rfl
theorem q1186 : (Jvm.Cond.methodLink "StiltTown" (307 : Nat) ({ cls := "StiltTown", name := "turned", desc := "()I" } : Jvm.MethodName)) ∈ lw_all := lw_g (lw_at lw_m5 68 rfl) rfl
theorem q1187 : (Jvm.Cond.privateMethod ({ cls := "StiltTown", name := "turned", desc := "()I" } : Jvm.MethodName)) ∈ lw_tbl := lw_at lw_m5 69 rfl
theorem q1188 : (Jvm.Cond.instanceMethod ({ cls := "StiltTown", name := "turned", desc := "()I" } : Jvm.MethodName)) ∈ lw_all := lw_g (lw_at lw_m5 70 rfl) rfl
theorem q1189 : (Jvm.Cond.code ({ cls := "StiltTown", name := "turned", desc := "()I" } : Jvm.MethodName) prog_1_method_39_code (4 : Nat) (Option.some Jvm.ClassFile.FieldType.int)) ∈ lw_all := lw_g (lw_at lw_m5 71 rfl) rfl
theorem q1190 : (Jvm.Cond.methodLink "StiltTown" (310 : Nat) ({ cls := "StiltTown", name := "badOnes", desc := "()I" } : Jvm.MethodName)) ∈ lw_all := lw_g (lw_at lw_m5 72 rfl) rfl
theorem q1191 : (Jvm.Cond.privateMethod ({ cls := "StiltTown", name := "badOnes", desc := "()I" } : Jvm.MethodName)) ∈ lw_tbl := lw_at lw_m5 73 rfl
theorem q1192 : (Jvm.Cond.instanceMethod ({ cls := "StiltTown", name := "badOnes", desc := "()I" } : Jvm.MethodName)) ∈ lw_all := lw_g (lw_at lw_m5 74 rfl) rfl
theorem q1193 : (Jvm.Cond.code ({ cls := "StiltTown", name := "badOnes", desc := "()I" } : Jvm.MethodName) prog_1_method_38_code (3 : Nat) (Option.some Jvm.ClassFile.FieldType.int)) ∈ lw_all := lw_g (lw_at lw_m5 75 rfl) rfl
theorem q1194 : (Jvm.Cond.methodLink "StiltTown" (301 : Nat) ({ cls := "StiltTown", name := "isBad", desc := "(I)Z" } : Jvm.MethodName)) ∈ lw_all := lw_g (lw_at lw_m5 76 rfl) rfl
theorem q1195 : (Jvm.Cond.privateMethod ({ cls := "StiltTown", name := "isBad", desc := "(I)Z" } : Jvm.MethodName)) ∈ lw_tbl := lw_at lw_m5 77 rfl
theorem q1196 : (Jvm.Cond.instanceMethod ({ cls := "StiltTown", name := "isBad", desc := "(I)Z" } : Jvm.MethodName)) ∈ lw_all := lw_g (lw_at lw_m5 78 rfl) rfl
theorem q1197 : (Jvm.Cond.code ({ cls := "StiltTown", name := "isBad", desc := "(I)Z" } : Jvm.MethodName) prog_1_method_37_code (4 : Nat) (Option.some Jvm.ClassFile.FieldType.boolean)) ∈ lw_all := lw_g (lw_at lw_m5 79 rfl) rfl
theorem q1198 : (Jvm.Cond.methodLink "StiltTown" (289 : Nat) ({ cls := "StiltTown", name := "swayOf", desc := "(II)I" } : Jvm.MethodName)) ∈ lw_all := lw_g (lw_at lw_m5 80 rfl) rfl
theorem q1199 : (Jvm.Cond.privateMethod ({ cls := "StiltTown", name := "swayOf", desc := "(II)I" } : Jvm.MethodName)) ∈ lw_tbl := lw_at lw_m5 81 rfl
theorem q1200 : (Jvm.Cond.instanceMethod ({ cls := "StiltTown", name := "swayOf", desc := "(II)I" } : Jvm.MethodName)) ∈ lw_all := lw_g (lw_at lw_m5 82 rfl) rfl
theorem q1201 : (Jvm.Cond.code ({ cls := "StiltTown", name := "swayOf", desc := "(II)I" } : Jvm.MethodName) prog_1_method_36_code (3 : Nat) (Option.some Jvm.ClassFile.FieldType.int)) ∈ lw_all := lw_g (lw_at lw_m5 83 rfl) rfl
theorem q1202 : (Jvm.Cond.classLink "StiltTown" (295 : Nat) "StiltTown$Test") ∈ lw_all := lw_g (lw_at lw_m5 84 rfl) rfl
theorem q1203 : (Jvm.Cond.interfaceEntry "StiltTown" (297 : Nat)) ∈ lw_tbl := lw_at lw_m5 85 rfl
theorem q1204 : (Jvm.Cond.methodLink "StiltTown" (297 : Nat) ({ cls := "StiltTown$Test", name := "holds", desc := "(LStiltTown$View;)Z" } : Jvm.MethodName)) ∈ lw_all := lw_g (lw_at lw_m5 86 rfl) rfl
theorem q1235 : (Jvm.Cond.instanceMethod ({ cls := "StiltTown", name := "wood", desc := "(I)I" } : Jvm.MethodName)) ∈ lw_all := lw_g (lw_at lw_m5 117 rfl) rfl
theorem q1236 : (Jvm.Cond.selects "StiltTown" ({ cls := "StiltTown", name := "wood", desc := "(I)I" } : Jvm.MethodName) ({ cls := "StiltTown", name := "wood", desc := "(I)I" } : Jvm.MethodName)) ∈ lw_all := lw_g (lw_at lw_m5 118 rfl) rfl
theorem q1237 : (Jvm.Cond.code ({ cls := "StiltTown", name := "wood", desc := "(I)I" } : Jvm.MethodName) prog_1_method_41_code (2 : Nat) (Option.some Jvm.ClassFile.FieldType.int)) ∈ lw_all := lw_g (lw_at lw_m5 119 rfl) rfl
theorem q1239 : (Jvm.Cond.instanceMethod ({ cls := "StiltTown", name := "jack", desc := "(II)I" } : Jvm.MethodName)) ∈ lw_all := lw_g (lw_at lw_m5 121 rfl) rfl
theorem q1240 : (Jvm.Cond.selects "StiltTown" ({ cls := "StiltTown", name := "jack", desc := "(II)I" } : Jvm.MethodName) ({ cls := "StiltTown", name := "jack", desc := "(II)I" } : Jvm.MethodName)) ∈ lw_all := lw_g (lw_at lw_m5 122 rfl) rfl
theorem q1241 : (Jvm.Cond.code ({ cls := "StiltTown", name := "jack", desc := "(II)I" } : Jvm.MethodName) prog_1_method_44_code (6 : Nat) (Option.some Jvm.ClassFile.FieldType.int)) ∈ lw_all := lw_g (lw_at lw_m5 123 rfl) rfl
theorem q1242 : (Jvm.Cond.methodLink "StiltTown" (317 : Nat) ({ cls := "StiltTown", name := "fewest", desc := "(I)I" } : Jvm.MethodName)) ∈ lw_all := lw_g (lw_at lw_m5 124 rfl) rfl
theorem q1243 : (Jvm.Cond.privateMethod ({ cls := "StiltTown", name := "fewest", desc := "(I)I" } : Jvm.MethodName)) ∈ lw_tbl := lw_at lw_m5 125 rfl
theorem q1244 : (Jvm.Cond.instanceMethod ({ cls := "StiltTown", name := "fewest", desc := "(I)I" } : Jvm.MethodName)) ∈ lw_all := lw_g (lw_at lw_m5 126 rfl) rfl
theorem q1245 : (Jvm.Cond.code ({ cls := "StiltTown", name := "fewest", desc := "(I)I" } : Jvm.MethodName) prog_1_method_42_code (7 : Nat) (Option.some Jvm.ClassFile.FieldType.int)) ∈ lw_all := lw_g (lw_at lw_m5 127 rfl) rfl
theorem q1246 : (Jvm.Cond.constant "StiltTown" (313 : Nat) (1000000000 : Int32)) ∈ lw_all := lw_g (lw_at lw_m5 128 rfl) rfl
theorem q1247 : (Jvm.Cond.methodLink "StiltTown" (320 : Nat) ({ cls := "StiltTown", name := "takes", desc := "(II)I" } : Jvm.MethodName)) ∈ lw_all := lw_g (lw_at lw_m5 129 rfl) rfl
theorem q1248 : (Jvm.Cond.privateMethod ({ cls := "StiltTown", name := "takes", desc := "(II)I" } : Jvm.MethodName)) ∈ lw_tbl := lw_at lw_m5 130 rfl
theorem q1249 : (Jvm.Cond.instanceMethod ({ cls := "StiltTown", name := "takes", desc := "(II)I" } : Jvm.MethodName)) ∈ lw_all := lw_g (lw_at lw_m5 131 rfl) rfl
theorem q1250 : (Jvm.Cond.code ({ cls := "StiltTown", name := "takes", desc := "(II)I" } : Jvm.MethodName) prog_1_method_43_code (5 : Nat) (Option.some Jvm.ClassFile.FieldType.int)) ∈ lw_all := lw_g (lw_at lw_m5 132 rfl) rfl
theorem q1252 : (Jvm.Cond.instanceMethod ({ cls := "StiltTown", name := "work", desc := "(III)I" } : Jvm.MethodName)) ∈ lw_all := lw_g (lw_at lw_m5 134 rfl) rfl
theorem q1253 : (Jvm.Cond.selects "StiltTown" ({ cls := "StiltTown", name := "work", desc := "(III)I" } : Jvm.MethodName) ({ cls := "StiltTown", name := "work", desc := "(III)I" } : Jvm.MethodName)) ∈ lw_all := lw_g (lw_at lw_m5 135 rfl) rfl
theorem q1254 : (Jvm.Cond.code ({ cls := "StiltTown", name := "work", desc := "(III)I" } : Jvm.MethodName) prog_1_method_45_code (4 : Nat) (Option.some Jvm.ClassFile.FieldType.int)) ∈ lw_all := lw_g (lw_at lw_m5 136 rfl) rfl
theorem q1255 : (Jvm.Cond.classLink "StiltTown" (326 : Nat) "StiltTown$Work") ∈ lw_all := lw_g (lw_at lw_m5 137 rfl) rfl
theorem q1257 : (Jvm.Cond.methodLinkNest "StiltTown" (328 : Nat) ({ cls := "StiltTown$Work", name := "<init>", desc := "(III)V" } : Jvm.MethodName) "StiltTown") ∈ lw_tbl := lw_at lw_m5 139 rfl
theorem q1262 : (Jvm.Cond.fieldLinkNest "StiltTown" (354 : Nat) "StiltTown$Work" "night" "I" "StiltTown") ∈ lw_tbl := lw_at lw_m5 144 rfl
theorem q1264 : (Jvm.Cond.fieldLinkNest "StiltTown" (336 : Nat) "StiltTown$Work" "house" "I" "StiltTown") ∈ lw_tbl := lw_at lw_m5 146 rfl
theorem q1266 : (Jvm.Cond.fieldLinkNest "StiltTown" (339 : Nat) "StiltTown$Work" "inches" "I" "StiltTown") ∈ lw_tbl := lw_at lw_m5 148 rfl
theorem q1274 : (Jvm.Cond.methodLink "StiltTown" (331 : Nat) ({ cls := "java/util/ArrayList", name := "add", desc := "(Ljava/lang/Object;)Z" } : Jvm.MethodName)) ∈ lw_all := lw_g (lw_at lw_m5 156 rfl) rfl
theorem q1276 : (Jvm.Cond.instanceMethod ({ cls := "StiltTown", name := "forget", desc := "()I" } : Jvm.MethodName)) ∈ lw_all := lw_g (lw_at lw_m5 158 rfl) rfl
theorem q1277 : (Jvm.Cond.selects "StiltTown" ({ cls := "StiltTown", name := "forget", desc := "()I" } : Jvm.MethodName) ({ cls := "StiltTown", name := "forget", desc := "()I" } : Jvm.MethodName)) ∈ lw_all := lw_g (lw_at lw_m5 159 rfl) rfl
theorem q1278 : (Jvm.Cond.code ({ cls := "StiltTown", name := "forget", desc := "()I" } : Jvm.MethodName) prog_1_method_46_code (2 : Nat) (Option.some Jvm.ClassFile.FieldType.int)) ∈ lw_all := lw_g (lw_at lw_m5 160 rfl) rfl
theorem q1279 : (Jvm.Cond.methodLink "StiltTown" (335 : Nat) ({ cls := "java/util/ArrayList", name := "clear", desc := "()V" } : Jvm.MethodName)) ∈ lw_all := lw_g (lw_at lw_m5 161 rfl) rfl
theorem q1284 : (Jvm.Cond.instanceMethod ({ cls := "StiltTown", name := "judge", desc := "()I" } : Jvm.MethodName)) ∈ lw_all := lw_g (lw_at lw_m5 166 rfl) rfl
theorem q1285 : (Jvm.Cond.selects "StiltTown" ({ cls := "StiltTown", name := "judge", desc := "()I" } : Jvm.MethodName) ({ cls := "StiltTown", name := "judge", desc := "()I" } : Jvm.MethodName)) ∈ lw_all := lw_g (lw_at lw_m5 167 rfl) rfl
theorem q1286 : (Jvm.Cond.code ({ cls := "StiltTown", name := "judge", desc := "()I" } : Jvm.MethodName) prog_1_method_50_code (2 : Nat) (Option.some Jvm.ClassFile.FieldType.int)) ∈ lw_all := lw_g (lw_at lw_m5 168 rfl) rfl
theorem q1287 : (Jvm.Cond.methodLink "StiltTown" (361 : Nat) ({ cls := "StiltTown$Kept", name := "keep", desc := "(LStiltTown$State;)V" } : Jvm.MethodName)) ∈ lw_all := lw_g (lw_at lw_m5 169 rfl) rfl
theorem q1292 : (Jvm.Cond.methodLink "StiltTown" (365 : Nat) ({ cls := "StiltTown", name := "works", desc := "()I" } : Jvm.MethodName)) ∈ lw_all := lw_g (lw_at lw_m5 174 rfl) rfl
theorem q1293 : (Jvm.Cond.privateMethod ({ cls := "StiltTown", name := "works", desc := "()I" } : Jvm.MethodName)) ∈ lw_tbl := lw_at lw_m5 175 rfl
theorem q1294 : (Jvm.Cond.instanceMethod ({ cls := "StiltTown", name := "works", desc := "()I" } : Jvm.MethodName)) ∈ lw_all := lw_g (lw_at lw_m5 176 rfl) rfl
theorem q1295 : (Jvm.Cond.code ({ cls := "StiltTown", name := "works", desc := "()I" } : Jvm.MethodName) prog_1_method_49_code (8 : Nat) (Option.some Jvm.ClassFile.FieldType.int)) ∈ lw_all := lw_g (lw_at lw_m5 177 rfl) rfl
theorem q1296 : (Jvm.Cond.methodLink "StiltTown" (357 : Nat) ({ cls := "StiltTown", name := "does", desc := "(LStiltTown$Work;I)I" } : Jvm.MethodName)) ∈ lw_all := lw_g (lw_at lw_m5 178 rfl) rfl
theorem q1297 : (Jvm.Cond.privateMethod ({ cls := "StiltTown", name := "does", desc := "(LStiltTown$Work;I)I" } : Jvm.MethodName)) ∈ lw_tbl := lw_at lw_m5 179 rfl
theorem q1298 : (Jvm.Cond.instanceMethod ({ cls := "StiltTown", name := "does", desc := "(LStiltTown$Work;I)I" } : Jvm.MethodName)) ∈ lw_all := lw_g (lw_at lw_m5 180 rfl) rfl
theorem q1299 : (Jvm.Cond.code ({ cls := "StiltTown", name := "does", desc := "(LStiltTown$Work;I)I" } : Jvm.MethodName) prog_1_method_47_code (8 : Nat) (Option.some Jvm.ClassFile.FieldType.int)) ∈ lw_all := lw_g (lw_at lw_m5 181 rfl) rfl
theorem q1300 : (Jvm.Cond.methodLink "StiltTown" (351 : Nat) ({ cls := "StiltTown", name := "saws", desc := "(I)V" } : Jvm.MethodName)) ∈ lw_all := lw_g (lw_at lw_m5 182 rfl) rfl
theorem q1301 : (Jvm.Cond.privateMethod ({ cls := "StiltTown", name := "saws", desc := "(I)V" } : Jvm.MethodName)) ∈ lw_tbl := lw_at lw_m5 183 rfl
theorem q1302 : (Jvm.Cond.instanceMethod ({ cls := "StiltTown", name := "saws", desc := "(I)V" } : Jvm.MethodName)) ∈ lw_all := lw_g (lw_at lw_m5 184 rfl) rfl
theorem q1303 : (Jvm.Cond.code ({ cls := "StiltTown", name := "saws", desc := "(I)V" } : Jvm.MethodName) prog_1_method_48_code (3 : Nat) (Option.none : Option Jvm.ClassFile.FieldType)) ∈ lw_all := lw_g (lw_at lw_m5 185 rfl) rfl
theorem q1304 : (Jvm.Cond.methodLink "StiltTown" (367 : Nat) ({ cls := "StiltTown$Kept", name := "back", desc := "(LStiltTown$State;)V" } : Jvm.MethodName)) ∈ lw_all := lw_g (lw_at lw_m5 186 rfl) rfl
theorem q1309 : (Jvm.Cond.instanceMethod ({ cls := "StiltTown", name := "done", desc := "()I" } : Jvm.MethodName)) ∈ lw_all := lw_g (lw_at lw_m5 191 rfl) rfl
theorem q1310 : (Jvm.Cond.selects "StiltTown" ({ cls := "StiltTown", name := "done", desc := "()I" } : Jvm.MethodName) ({ cls := "StiltTown", name := "done", desc := "()I" } : Jvm.MethodName)) ∈ lw_all := lw_g (lw_at lw_m5 192 rfl) rfl
theorem q1311 : (Jvm.Cond.code ({ cls := "StiltTown", name := "done", desc := "()I" } : Jvm.MethodName) prog_1_method_51_code (2 : Nat) (Option.some Jvm.ClassFile.FieldType.int)) ∈ lw_all := lw_g (lw_at lw_m5 193 rfl) rfl
theorem q1312 : (Jvm.Cond.methodLink "StiltTown" (369 : Nat) ({ cls := "java/util/ArrayList", name := "isEmpty", desc := "()Z" } : Jvm.MethodName)) ∈ lw_all := lw_g (lw_at lw_m5 194 rfl) rfl
theorem q1317 : (Jvm.Cond.instanceMethod ({ cls := "StiltTown", name := "undo", desc := "()Z" } : Jvm.MethodName)) ∈ lw_all := lw_g (lw_at lw_m5 199 rfl) rfl
theorem q1318 : (Jvm.Cond.selects "StiltTown" ({ cls := "StiltTown", name := "undo", desc := "()Z" } : Jvm.MethodName) ({ cls := "StiltTown", name := "undo", desc := "()Z" } : Jvm.MethodName)) ∈ lw_all := lw_g (lw_at lw_m5 200 rfl) rfl
theorem q1319 : (Jvm.Cond.code ({ cls := "StiltTown", name := "undo", desc := "()Z" } : Jvm.MethodName) prog_1_method_52_code (1 : Nat) (Option.some Jvm.ClassFile.FieldType.boolean)) ∈ lw_all := lw_g (lw_at lw_m5 201 rfl) rfl
theorem q1321 : (Jvm.Cond.instanceMethod ({ cls := "StiltTown", name := "nights", desc := "(I)I" } : Jvm.MethodName)) ∈ lw_all := lw_g (lw_at lw_m5 203 rfl) rfl
theorem q1322 : (Jvm.Cond.selects "StiltTown" ({ cls := "StiltTown", name := "nights", desc := "(I)I" } : Jvm.MethodName) ({ cls := "StiltTown", name := "nights", desc := "(I)I" } : Jvm.MethodName)) ∈ lw_all := lw_g (lw_at lw_m5 204 rfl) rfl
theorem q1323 : (Jvm.Cond.code ({ cls := "StiltTown", name := "nights", desc := "(I)I" } : Jvm.MethodName) prog_1_method_55_code (7 : Nat) (Option.some Jvm.ClassFile.FieldType.int)) ∈ lw_all := lw_g (lw_at lw_m5 205 rfl) rfl
theorem q1324 : (Jvm.Cond.methodLink "StiltTown" (379 : Nat) ({ cls := "StiltTown", name := "fillNights", desc := "()I" } : Jvm.MethodName)) ∈ lw_all := lw_g (lw_at lw_m5 206 rfl) rfl
theorem q1325 : (Jvm.Cond.privateMethod ({ cls := "StiltTown", name := "fillNights", desc := "()I" } : Jvm.MethodName)) ∈ lw_tbl := lw_at lw_m5 207 rfl
theorem q1326 : (Jvm.Cond.instanceMethod ({ cls := "StiltTown", name := "fillNights", desc := "()I" } : Jvm.MethodName)) ∈ lw_all := lw_g (lw_at lw_m5 208 rfl) rfl
theorem q1327 : (Jvm.Cond.code ({ cls := "StiltTown", name := "fillNights", desc := "()I" } : Jvm.MethodName) prog_1_method_53_code (8 : Nat) (Option.some Jvm.ClassFile.FieldType.int)) ∈ lw_all := lw_g (lw_at lw_m5 209 rfl) rfl
theorem q1328 : (Jvm.Cond.methodLink "StiltTown" (375 : Nat) ({ cls := "StiltTown", name := "canAdd", desc := "(II)Z" } : Jvm.MethodName)) ∈ lw_all := lw_g (lw_at lw_m5 210 rfl) rfl
theorem q1329 : (Jvm.Cond.privateMethod ({ cls := "StiltTown", name := "canAdd", desc := "(II)Z" } : Jvm.MethodName)) ∈ lw_tbl := lw_at lw_m5 211 rfl
theorem q1330 : (Jvm.Cond.instanceMethod ({ cls := "StiltTown", name := "canAdd", desc := "(II)Z" } : Jvm.MethodName)) ∈ lw_all := lw_g (lw_at lw_m5 212 rfl) rfl
theorem q1331 : (Jvm.Cond.code ({ cls := "StiltTown", name := "canAdd", desc := "(II)Z" } : Jvm.MethodName) prog_1_method_54_code (3 : Nat) (Option.some Jvm.ClassFile.FieldType.boolean)) ∈ lw_all := lw_g (lw_at lw_m5 213 rfl) rfl
theorem q1333 : (Jvm.Cond.instanceMethod ({ cls := "StiltTown", name := "looks", desc := "(II)I" } : Jvm.MethodName)) ∈ lw_all := lw_g (lw_at lw_m5 215 rfl) rfl
theorem q1334 : (Jvm.Cond.selects "StiltTown" ({ cls := "StiltTown", name := "looks", desc := "(II)I" } : Jvm.MethodName) ({ cls := "StiltTown", name := "looks", desc := "(II)I" } : Jvm.MethodName)) ∈ lw_all := lw_g (lw_at lw_m5 216 rfl) rfl
theorem q1335 : (Jvm.Cond.code ({ cls := "StiltTown", name := "looks", desc := "(II)I" } : Jvm.MethodName) prog_1_method_58_code (3 : Nat) (Option.some Jvm.ClassFile.FieldType.int)) ∈ lw_all := lw_g (lw_at lw_m5 217 rfl) rfl
theorem q1336 : (Jvm.Cond.methodLink "StiltTown" (384 : Nat) ({ cls := "StiltTown", name := "looksInto", desc := "(II)Z" } : Jvm.MethodName)) ∈ lw_all := lw_g (lw_at lw_m5 218 rfl) rfl
theorem q1337 : (Jvm.Cond.privateMethod ({ cls := "StiltTown", name := "looksInto", desc := "(II)Z" } : Jvm.MethodName)) ∈ lw_tbl := lw_at lw_m5 219 rfl
theorem q1338 : (Jvm.Cond.instanceMethod ({ cls := "StiltTown", name := "looksInto", desc := "(II)Z" } : Jvm.MethodName)) ∈ lw_all := lw_g (lw_at lw_m5 220 rfl) rfl
theorem q1339 : (Jvm.Cond.code ({ cls := "StiltTown", name := "looksInto", desc := "(II)Z" } : Jvm.MethodName) prog_1_method_57_code (6 : Nat) (Option.some Jvm.ClassFile.FieldType.boolean)) ∈ lw_all := lw_g (lw_at lw_m5 221 rfl) rfl
theorem q1340 : (Jvm.Cond.methodLink "StiltTown" (382 : Nat) ({ cls := "StiltTown", name := "x", desc := "(I)I" } : Jvm.MethodName)) ∈ lw_all := lw_g (lw_at lw_m5 222 rfl) rfl
theorem q1341 : (Jvm.Cond.privateMethod ({ cls := "StiltTown", name := "x", desc := "(I)I" } : Jvm.MethodName)) ∈ lw_tbl := lw_at lw_m5 223 rfl
theorem q1342 : (Jvm.Cond.instanceMethod ({ cls := "StiltTown", name := "x", desc := "(I)I" } : Jvm.MethodName)) ∈ lw_all := lw_g (lw_at lw_m5 224 rfl) rfl
theorem q1343 : (Jvm.Cond.code ({ cls := "StiltTown", name := "x", desc := "(I)I" } : Jvm.MethodName) prog_1_method_56_code (2 : Nat) (Option.some Jvm.ClassFile.FieldType.int)) ∈ lw_all := lw_g (lw_at lw_m5 225 rfl) rfl
theorem q1345 : (Jvm.Cond.instanceMethod ({ cls := "StiltTown", name := "light", desc := "(I)I" } : Jvm.MethodName)) ∈ lw_all := lw_g (lw_at lw_m5 227 rfl) rfl
theorem q1346 : (Jvm.Cond.selects "StiltTown" ({ cls := "StiltTown", name := "light", desc := "(I)I" } : Jvm.MethodName) ({ cls := "StiltTown", name := "light", desc := "(I)I" } : Jvm.MethodName)) ∈ lw_all := lw_g (lw_at lw_m5 228 rfl) rfl
theorem q1347 : (Jvm.Cond.code ({ cls := "StiltTown", name := "light", desc := "(I)I" } : Jvm.MethodName) prog_1_method_59_code (5 : Nat) (Option.some Jvm.ClassFile.FieldType.int)) ∈ lw_all := lw_g (lw_at lw_m5 229 rfl) rfl
theorem q1349 : (Jvm.Cond.instanceMethod ({ cls := "StiltTown", name := "sway", desc := "(II)I" } : Jvm.MethodName)) ∈ lw_all := lw_g (lw_at lw_m5 231 rfl) rfl
theorem q1350 : (Jvm.Cond.selects "StiltTown" ({ cls := "StiltTown", name := "sway", desc := "(II)I" } : Jvm.MethodName) ({ cls := "StiltTown", name := "sway", desc := "(II)I" } : Jvm.MethodName)) ∈ lw_all := lw_g (lw_at lw_m5 232 rfl) rfl
theorem q1351 : (Jvm.Cond.code ({ cls := "StiltTown", name := "sway", desc := "(II)I" } : Jvm.MethodName) prog_1_method_61_code (3 : Nat) (Option.some Jvm.ClassFile.FieldType.int)) ∈ lw_all := lw_g (lw_at lw_m5 233 rfl) rfl
theorem q1352 : (Jvm.Cond.methodLink "StiltTown" (387 : Nat) ({ cls := "StiltTown", name := "isWind", desc := "(I)Z" } : Jvm.MethodName)) ∈ lw_all := lw_g (lw_at lw_m5 234 rfl) rfl
theorem q1353 : (Jvm.Cond.static ({ cls := "StiltTown", name := "isWind", desc := "(I)Z" } : Jvm.MethodName)) ∈ lw_all := lw_g (lw_at lw_m5 235 rfl) rfl
theorem q1354 : (Jvm.Cond.code ({ cls := "StiltTown", name := "isWind", desc := "(I)Z" } : Jvm.MethodName) prog_1_method_60_code (1 : Nat) (Option.some Jvm.ClassFile.FieldType.boolean)) ∈ lw_all := lw_g (lw_at lw_m5 236 rfl) rfl
theorem q1356 : (Jvm.Cond.instanceMethod ({ cls := "StiltTown", name := "chain", desc := "(III)I" } : Jvm.MethodName)) ∈ lw_all := lw_g (lw_at lw_m5 238 rfl) rfl
theorem q1357 : (Jvm.Cond.selects "StiltTown" ({ cls := "StiltTown", name := "chain", desc := "(III)I" } : Jvm.MethodName) ({ cls := "StiltTown", name := "chain", desc := "(III)I" } : Jvm.MethodName)) ∈ lw_all := lw_g (lw_at lw_m5 239 rfl) rfl
theorem q1358 : (Jvm.Cond.code ({ cls := "StiltTown", name := "chain", desc := "(III)I" } : Jvm.MethodName) prog_1_method_65_code (7 : Nat) (Option.some Jvm.ClassFile.FieldType.int)) ∈ lw_all := lw_g (lw_at lw_m6 0 rfl) rfl
theorem q1359 : (Jvm.Cond.methodLink "StiltTown" (404 : Nat) ({ cls := "StiltTown", name := "chains", desc := "(II)I" } : Jvm.MethodName)) ∈ lw_all := lw_g (lw_at lw_m6 1 rfl) rfl
theorem q1360 : (Jvm.Cond.privateMethod ({ cls := "StiltTown", name := "chains", desc := "(II)I" } : Jvm.MethodName)) ∈ lw_tbl := lw_at lw_m6 2 rfl
theorem q1361 : (Jvm.Cond.instanceMethod ({ cls := "StiltTown", name := "chains", desc := "(II)I" } : Jvm.MethodName)) ∈ lw_all := lw_g (lw_at lw_m6 3 rfl) rfl
theorem q1362 : (Jvm.Cond.code ({ cls := "StiltTown", name := "chains", desc := "(II)I" } : Jvm.MethodName) prog_1_method_64_code (7 : Nat) (Option.some Jvm.ClassFile.FieldType.int)) ∈ lw_all := lw_g (lw_at lw_m6 4 rfl) rfl
theorem q1363 : (Jvm.Cond.methodLink "StiltTown" (402 : Nat) ({ cls := "StiltTown", name := "falls", desc := "(III)Z" } : Jvm.MethodName)) ∈ lw_all := lw_g (lw_at lw_m6 5 rfl) rfl
theorem q1364 : (Jvm.Cond.privateMethod ({ cls := "StiltTown", name := "falls", desc := "(III)Z" } : Jvm.MethodName)) ∈ lw_tbl := lw_at lw_m6 6 rfl
theorem q1365 : (Jvm.Cond.instanceMethod ({ cls := "StiltTown", name := "falls", desc := "(III)Z" } : Jvm.MethodName)) ∈ lw_all := lw_g (lw_at lw_m6 7 rfl) rfl
theorem q1366 : (Jvm.Cond.code ({ cls := "StiltTown", name := "falls", desc := "(III)Z" } : Jvm.MethodName) prog_1_method_63_code (6 : Nat) (Option.some Jvm.ClassFile.FieldType.boolean)) ∈ lw_all := lw_g (lw_at lw_m6 8 rfl) rfl
theorem q1367 : (Jvm.Cond.methodLink "StiltTown" (396 : Nat) ({ cls := "StiltTown", name := "goneBeside", desc := "(II)I" } : Jvm.MethodName)) ∈ lw_all := lw_g (lw_at lw_m6 9 rfl) rfl
theorem q1368 : (Jvm.Cond.privateMethod ({ cls := "StiltTown", name := "goneBeside", desc := "(II)I" } : Jvm.MethodName)) ∈ lw_tbl := lw_at lw_m6 10 rfl
theorem q1369 : (Jvm.Cond.instanceMethod ({ cls := "StiltTown", name := "goneBeside", desc := "(II)I" } : Jvm.MethodName)) ∈ lw_all := lw_g (lw_at lw_m6 11 rfl) rfl
theorem q1370 : (Jvm.Cond.code ({ cls := "StiltTown", name := "goneBeside", desc := "(II)I" } : Jvm.MethodName) prog_1_method_62_code (6 : Nat) (Option.some Jvm.ClassFile.FieldType.int)) ∈ lw_all := lw_g (lw_at lw_m6 12 rfl) rfl
theorem q1371 : (Jvm.Cond.methodLink "StiltTown" (390 : Nat) ({ cls := "StiltTown$Stair", name := "isOf", desc := "(I)Z" } : Jvm.MethodName)) ∈ lw_all := lw_g (lw_at lw_m6 13 rfl) rfl
theorem q1375 : (Jvm.Cond.methodLink "StiltTown" (393 : Nat) ({ cls := "StiltTown$Stair", name := "other", desc := "(I)I" } : Jvm.MethodName)) ∈ lw_all := lw_g (lw_at lw_m6 17 rfl) rfl
theorem q1380 : (Jvm.Cond.instanceMethod ({ cls := "StiltTown", name := "dread", desc := "(I)I" } : Jvm.MethodName)) ∈ lw_all := lw_g (lw_at lw_m6 22 rfl) rfl
theorem q1381 : (Jvm.Cond.selects "StiltTown" ({ cls := "StiltTown", name := "dread", desc := "(I)I" } : Jvm.MethodName) ({ cls := "StiltTown", name := "dread", desc := "(I)I" } : Jvm.MethodName)) ∈ lw_all := lw_g (lw_at lw_m6 23 rfl) rfl
theorem q1382 : (Jvm.Cond.code ({ cls := "StiltTown", name := "dread", desc := "(I)I" } : Jvm.MethodName) prog_1_method_66_code (6 : Nat) (Option.some Jvm.ClassFile.FieldType.int)) ∈ lw_all := lw_g (lw_at lw_m6 24 rfl) rfl
theorem q1384 : (Jvm.Cond.instanceMethod ({ cls := "StiltTown", name := "year", desc := "(I)I" } : Jvm.MethodName)) ∈ lw_all := lw_g (lw_at lw_m6 26 rfl) rfl
theorem q1385 : (Jvm.Cond.selects "StiltTown" ({ cls := "StiltTown", name := "year", desc := "(I)I" } : Jvm.MethodName) ({ cls := "StiltTown", name := "year", desc := "(I)I" } : Jvm.MethodName)) ∈ lw_all := lw_g (lw_at lw_m6 27 rfl) rfl
theorem q1386 : (Jvm.Cond.code ({ cls := "StiltTown", name := "year", desc := "(I)I" } : Jvm.MethodName) prog_1_method_67_code (2 : Nat) (Option.some Jvm.ClassFile.FieldType.int)) ∈ lw_all := lw_g (lw_at lw_m6 28 rfl) rfl
theorem q1388 : (Jvm.Cond.instanceMethod ({ cls := "StiltTown", name := "clear", desc := "()I" } : Jvm.MethodName)) ∈ lw_all := lw_g (lw_at lw_m6 30 rfl) rfl
theorem q1389 : (Jvm.Cond.selects "StiltTown" ({ cls := "StiltTown", name := "clear", desc := "()I" } : Jvm.MethodName) ({ cls := "StiltTown", name := "clear", desc := "()I" } : Jvm.MethodName)) ∈ lw_all := lw_g (lw_at lw_m6 31 rfl) rfl
theorem q1390 : (Jvm.Cond.code ({ cls := "StiltTown", name := "clear", desc := "()I" } : Jvm.MethodName) prog_1_method_68_code (2 : Nat) (Option.some Jvm.ClassFile.FieldType.int)) ∈ lw_all := lw_g (lw_at lw_m6 32 rfl) rfl
theorem q1392 : (Jvm.Cond.instanceMethod ({ cls := "StiltTown", name := "posts", desc := "(IIIII)I" } : Jvm.MethodName)) ∈ lw_all := lw_g (lw_at lw_m6 34 rfl) rfl
theorem q1393 : (Jvm.Cond.selects "StiltTown" ({ cls := "StiltTown", name := "posts", desc := "(IIIII)I" } : Jvm.MethodName) ({ cls := "StiltTown", name := "posts", desc := "(IIIII)I" } : Jvm.MethodName)) ∈ lw_all := lw_g (lw_at lw_m6 35 rfl) rfl
theorem q1394 : (Jvm.Cond.code ({ cls := "StiltTown", name := "posts", desc := "(IIIII)I" } : Jvm.MethodName) prog_1_method_72_code (6 : Nat) (Option.some Jvm.ClassFile.FieldType.int)) ∈ lw_all := lw_g (lw_at lw_m6 36 rfl) rfl
theorem q1395 : (Jvm.Cond.methodLink "StiltTown" (410 : Nat) ({ cls := "StiltTown", name := "arePosts", desc := "(IIIII)Z" } : Jvm.MethodName)) ∈ lw_all := lw_g (lw_at lw_m6 37 rfl) rfl
theorem q1396 : (Jvm.Cond.static ({ cls := "StiltTown", name := "arePosts", desc := "(IIIII)Z" } : Jvm.MethodName)) ∈ lw_all := lw_g (lw_at lw_m6 38 rfl) rfl
theorem q1397 : (Jvm.Cond.code ({ cls := "StiltTown", name := "arePosts", desc := "(IIIII)Z" } : Jvm.MethodName) prog_1_method_71_code (5 : Nat) (Option.some Jvm.ClassFile.FieldType.boolean)) ∈ lw_all := lw_g (lw_at lw_m6 39 rfl) rfl
theorem q1398 : (Jvm.Cond.methodLink "StiltTown" (414 : Nat) ({ cls := "StiltTown", name := "fillPosts", desc := "(IIII)V" } : Jvm.MethodName)) ∈ lw_all := lw_g (lw_at lw_m6 40 rfl) rfl
theorem q1399 : (Jvm.Cond.privateMethod ({ cls := "StiltTown", name := "fillPosts", desc := "(IIII)V" } : Jvm.MethodName)) ∈ lw_tbl := lw_at lw_m6 41 rfl
theorem q1400 : (Jvm.Cond.instanceMethod ({ cls := "StiltTown", name := "fillPosts", desc := "(IIII)V" } : Jvm.MethodName)) ∈ lw_all := lw_g (lw_at lw_m6 42 rfl) rfl
theorem q1401 : (Jvm.Cond.code ({ cls := "StiltTown", name := "fillPosts", desc := "(IIII)V" } : Jvm.MethodName) prog_1_method_70_code (8 : Nat) (Option.none : Option Jvm.ClassFile.FieldType)) ∈ lw_all := lw_g (lw_at lw_m6 43 rfl) rfl
theorem q1402 : (Jvm.Cond.methodLink "StiltTown" (407 : Nat) ({ cls := "StiltTown", name := "change", desc := "(IIIII)I" } : Jvm.MethodName)) ∈ lw_all := lw_g (lw_at lw_m6 44 rfl) rfl
theorem q1403 : (Jvm.Cond.static ({ cls := "StiltTown", name := "change", desc := "(IIIII)I" } : Jvm.MethodName)) ∈ lw_all := lw_g (lw_at lw_m6 45 rfl) rfl
theorem q1404 : (Jvm.Cond.code ({ cls := "StiltTown", name := "change", desc := "(IIIII)I" } : Jvm.MethodName) prog_1_method_69_code (5 : Nat) (Option.some Jvm.ClassFile.FieldType.int)) ∈ lw_all := lw_g (lw_at lw_m6 46 rfl) rfl
theorem q1406 : (Jvm.Cond.instanceMethod ({ cls := "StiltTown", name := "postAt", desc := "(IIIIII)I" } : Jvm.MethodName)) ∈ lw_all := lw_g (lw_at lw_m6 48 rfl) rfl
theorem q1407 : (Jvm.Cond.selects "StiltTown" ({ cls := "StiltTown", name := "postAt", desc := "(IIIIII)I" } : Jvm.MethodName) ({ cls := "StiltTown", name := "postAt", desc := "(IIIIII)I" } : Jvm.MethodName)) ∈ lw_all := lw_g (lw_at lw_m6 49 rfl) rfl
theorem q1408 : (Jvm.Cond.code ({ cls := "StiltTown", name := "postAt", desc := "(IIIIII)I" } : Jvm.MethodName) prog_1_method_73_code (10 : Nat) (Option.some Jvm.ClassFile.FieldType.int)) ∈ lw_all := lw_g (lw_at lw_m6 50 rfl) rfl
theorem q1410 : (Jvm.Cond.instanceMethod ({ cls := "StiltTown", name := "vote", desc := "(III)I" } : Jvm.MethodName)) ∈ lw_all := lw_g (lw_at lw_m6 52 rfl) rfl
theorem q1411 : (Jvm.Cond.selects "StiltTown" ({ cls := "StiltTown", name := "vote", desc := "(III)I" } : Jvm.MethodName) ({ cls := "StiltTown", name := "vote", desc := "(III)I" } : Jvm.MethodName)) ∈ lw_all := lw_g (lw_at lw_m6 53 rfl) rfl
theorem q1412 : (Jvm.Cond.code ({ cls := "StiltTown", name := "vote", desc := "(III)I" } : Jvm.MethodName) prog_1_method_76_code (4 : Nat) (Option.some Jvm.ClassFile.FieldType.int)) ∈ lw_all := lw_g (lw_at lw_m6 54 rfl) rfl
theorem q1413 : (Jvm.Cond.methodLink "StiltTown" (421 : Nat) ({ cls := "StiltTown", name := "hasRoom", desc := "()Z" } : Jvm.MethodName)) ∈ lw_all := lw_g (lw_at lw_m6 55 rfl) rfl
theorem q1414 : (Jvm.Cond.privateMethod ({ cls := "StiltTown", name := "hasRoom", desc := "()Z" } : Jvm.MethodName)) ∈ lw_tbl := lw_at lw_m6 56 rfl
theorem q1415 : (Jvm.Cond.instanceMethod ({ cls := "StiltTown", name := "hasRoom", desc := "()Z" } : Jvm.MethodName)) ∈ lw_all := lw_g (lw_at lw_m6 57 rfl) rfl
theorem q1416 : (Jvm.Cond.code ({ cls := "StiltTown", name := "hasRoom", desc := "()Z" } : Jvm.MethodName) prog_1_method_75_code (1 : Nat) (Option.some Jvm.ClassFile.FieldType.boolean)) ∈ lw_all := lw_g (lw_at lw_m6 58 rfl) rfl
theorem q1417 : (Jvm.Cond.classLink "StiltTown" (424 : Nat) "StiltTown$Log") ∈ lw_all := lw_g (lw_at lw_m6 59 rfl) rfl
theorem q1419 : (Jvm.Cond.methodLinkNest "StiltTown" (426 : Nat) ({ cls := "StiltTown$Log", name := "<init>", desc := "(IIII)V" } : Jvm.MethodName) "StiltTown") ∈ lw_tbl := lw_at lw_m6 61 rfl
theorem q1424 : (Jvm.Cond.fieldLinkNest "StiltTown" (432 : Nat) "StiltTown$Log" "sort" "I" "StiltTown") ∈ lw_tbl := lw_at lw_m6 66 rfl
theorem q1426 : (Jvm.Cond.fieldLinkNest "StiltTown" (435 : Nat) "StiltTown$Log" "of" "I" "StiltTown") ∈ lw_tbl := lw_at lw_m6 68 rfl
theorem q1428 : (Jvm.Cond.fieldLinkNest "StiltTown" (438 : Nat) "StiltTown$Log" "where" "I" "StiltTown") ∈ lw_tbl := lw_at lw_m6 70 rfl
theorem q1430 : (Jvm.Cond.fieldLinkNest "StiltTown" (444 : Nat) "StiltTown$Log" "what" "I" "StiltTown") ∈ lw_tbl := lw_at lw_m6 72 rfl
theorem q1440 : (Jvm.Cond.methodLink "StiltTown" (428 : Nat) ({ cls := "StiltTown", name := "writes", desc := "(LStiltTown$Log;)I" } : Jvm.MethodName)) ∈ lw_all := lw_g (lw_at lw_m6 82 rfl) rfl
theorem q1441 : (Jvm.Cond.privateMethod ({ cls := "StiltTown", name := "writes", desc := "(LStiltTown$Log;)I" } : Jvm.MethodName)) ∈ lw_tbl := lw_at lw_m6 83 rfl
theorem q1442 : (Jvm.Cond.instanceMethod ({ cls := "StiltTown", name := "writes", desc := "(LStiltTown$Log;)I" } : Jvm.MethodName)) ∈ lw_all := lw_g (lw_at lw_m6 84 rfl) rfl
theorem q1443 : (Jvm.Cond.code ({ cls := "StiltTown", name := "writes", desc := "(LStiltTown$Log;)I" } : Jvm.MethodName) prog_1_method_74_code (2 : Nat) (Option.some Jvm.ClassFile.FieldType.int)) ∈ lw_all := lw_g (lw_at lw_m6 85 rfl) rfl
theorem q1445 : (Jvm.Cond.instanceMethod ({ cls := "StiltTown", name := "mark", desc := "(III)I" } : Jvm.MethodName)) ∈ lw_all := lw_g (lw_at lw_m6 87 rfl) rfl
theorem q1446 : (Jvm.Cond.selects "StiltTown" ({ cls := "StiltTown", name := "mark", desc := "(III)I" } : Jvm.MethodName) ({ cls := "StiltTown", name := "mark", desc := "(III)I" } : Jvm.MethodName)) ∈ lw_all := lw_g (lw_at lw_m6 88 rfl) rfl
theorem q1447 : (Jvm.Cond.code ({ cls := "StiltTown", name := "mark", desc := "(III)I" } : Jvm.MethodName) prog_1_method_77_code (4 : Nat) (Option.some Jvm.ClassFile.FieldType.int)) ∈ lw_all := lw_g (lw_at lw_m6 89 rfl) rfl
theorem q1449 : (Jvm.Cond.instanceMethod ({ cls := "StiltTown", name := "annul", desc := "(I)I" } : Jvm.MethodName)) ∈ lw_all := lw_g (lw_at lw_m6 91 rfl) rfl
theorem q1450 : (Jvm.Cond.selects "StiltTown" ({ cls := "StiltTown", name := "annul", desc := "(I)I" } : Jvm.MethodName) ({ cls := "StiltTown", name := "annul", desc := "(I)I" } : Jvm.MethodName)) ∈ lw_all := lw_g (lw_at lw_m6 92 rfl) rfl
theorem q1451 : (Jvm.Cond.code ({ cls := "StiltTown", name := "annul", desc := "(I)I" } : Jvm.MethodName) prog_1_method_78_code (2 : Nat) (Option.some Jvm.ClassFile.FieldType.int)) ∈ lw_all := lw_g (lw_at lw_m6 93 rfl) rfl
theorem q1453 : (Jvm.Cond.instanceMethod ({ cls := "StiltTown", name := "votes", desc := "(III)I" } : Jvm.MethodName)) ∈ lw_all := lw_g (lw_at lw_m6 95 rfl) rfl
theorem q1454 : (Jvm.Cond.selects "StiltTown" ({ cls := "StiltTown", name := "votes", desc := "(III)I" } : Jvm.MethodName) ({ cls := "StiltTown", name := "votes", desc := "(III)I" } : Jvm.MethodName)) ∈ lw_all := lw_g (lw_at lw_m6 96 rfl) rfl
theorem q1455 : (Jvm.Cond.code ({ cls := "StiltTown", name := "votes", desc := "(III)I" } : Jvm.MethodName) prog_1_method_83_code (4 : Nat) (Option.some Jvm.ClassFile.FieldType.int)) ∈ lw_all := lw_g (lw_at lw_m6 97 rfl) rfl
theorem q1456 : (Jvm.Cond.methodLink "StiltTown" (450 : Nat) ({ cls := "StiltTown", name := "isKnown", desc := "(I)Z" } : Jvm.MethodName)) ∈ lw_all := lw_g (lw_at lw_m6 98 rfl) rfl
theorem q1457 : (Jvm.Cond.privateMethod ({ cls := "StiltTown", name := "isKnown", desc := "(I)Z" } : Jvm.MethodName)) ∈ lw_tbl := lw_at lw_m6 99 rfl
theorem q1458 : (Jvm.Cond.instanceMethod ({ cls := "StiltTown", name := "isKnown", desc := "(I)Z" } : Jvm.MethodName)) ∈ lw_all := lw_g (lw_at lw_m6 100 rfl) rfl
theorem q1459 : (Jvm.Cond.code ({ cls := "StiltTown", name := "isKnown", desc := "(I)Z" } : Jvm.MethodName) prog_1_method_79_code (2 : Nat) (Option.some Jvm.ClassFile.FieldType.boolean)) ∈ lw_all := lw_g (lw_at lw_m6 101 rfl) rfl
theorem q1460 : (Jvm.Cond.methodLink "StiltTown" (453 : Nat) ({ cls := "StiltTown", name := "votesFor", desc := "(III)I" } : Jvm.MethodName)) ∈ lw_all := lw_g (lw_at lw_m6 102 rfl) rfl
theorem q1461 : (Jvm.Cond.privateMethod ({ cls := "StiltTown", name := "votesFor", desc := "(III)I" } : Jvm.MethodName)) ∈ lw_tbl := lw_at lw_m6 103 rfl
theorem q1462 : (Jvm.Cond.instanceMethod ({ cls := "StiltTown", name := "votesFor", desc := "(III)I" } : Jvm.MethodName)) ∈ lw_all := lw_g (lw_at lw_m6 104 rfl) rfl
theorem q1463 : (Jvm.Cond.code ({ cls := "StiltTown", name := "votesFor", desc := "(III)I" } : Jvm.MethodName) prog_1_method_82_code (6 : Nat) (Option.some Jvm.ClassFile.FieldType.int)) ∈ lw_all := lw_g (lw_at lw_m6 105 rfl) rfl
theorem q1464 : (Jvm.Cond.methodLink "StiltTown" (447 : Nat) ({ cls := "StiltTown", name := "voteOf", desc := "(III)I" } : Jvm.MethodName)) ∈ lw_all := lw_g (lw_at lw_m6 106 rfl) rfl
theorem q1465 : (Jvm.Cond.privateMethod ({ cls := "StiltTown", name := "voteOf", desc := "(III)I" } : Jvm.MethodName)) ∈ lw_tbl := lw_at lw_m6 107 rfl
theorem q1466 : (Jvm.Cond.instanceMethod ({ cls := "StiltTown", name := "voteOf", desc := "(III)I" } : Jvm.MethodName)) ∈ lw_all := lw_g (lw_at lw_m6 108 rfl) rfl
theorem q1467 : (Jvm.Cond.code ({ cls := "StiltTown", name := "voteOf", desc := "(III)I" } : Jvm.MethodName) prog_1_method_81_code (6 : Nat) (Option.some Jvm.ClassFile.FieldType.int)) ∈ lw_all := lw_g (lw_at lw_m6 109 rfl) rfl
theorem q1468 : (Jvm.Cond.methodLink "StiltTown" (441 : Nat) ({ cls := "StiltTown", name := "counts", desc := "(II)Z" } : Jvm.MethodName)) ∈ lw_all := lw_g (lw_at lw_m6 110 rfl) rfl
theorem q1469 : (Jvm.Cond.privateMethod ({ cls := "StiltTown", name := "counts", desc := "(II)Z" } : Jvm.MethodName)) ∈ lw_tbl := lw_at lw_m6 111 rfl
theorem q1470 : (Jvm.Cond.instanceMethod ({ cls := "StiltTown", name := "counts", desc := "(II)Z" } : Jvm.MethodName)) ∈ lw_all := lw_g (lw_at lw_m6 112 rfl) rfl
theorem q1471 : (Jvm.Cond.code ({ cls := "StiltTown", name := "counts", desc := "(II)Z" } : Jvm.MethodName) prog_1_method_80_code (4 : Nat) (Option.some Jvm.ClassFile.FieldType.boolean)) ∈ lw_all := lw_g (lw_at lw_m6 113 rfl) rfl
theorem q1473 : (Jvm.Cond.instanceMethod ({ cls := "StiltTown", name := "winner", desc := "(II)I" } : Jvm.MethodName)) ∈ lw_all := lw_g (lw_at lw_m6 115 rfl) rfl
theorem q1474 : (Jvm.Cond.selects "StiltTown" ({ cls := "StiltTown", name := "winner", desc := "(II)I" } : Jvm.MethodName) ({ cls := "StiltTown", name := "winner", desc := "(II)I" } : Jvm.MethodName)) ∈ lw_all := lw_g (lw_at lw_m6 116 rfl) rfl
theorem q1475 : (Jvm.Cond.code ({ cls := "StiltTown", name := "winner", desc := "(II)I" } : Jvm.MethodName) prog_1_method_84_code (7 : Nat) (Option.some Jvm.ClassFile.FieldType.int)) ∈ lw_all := lw_g (lw_at lw_m6 117 rfl) rfl
theorem q1477 : (Jvm.Cond.instanceMethod ({ cls := "StiltTown", name := "ends", desc := "(IIII)I" } : Jvm.MethodName)) ∈ lw_all := lw_g (lw_at lw_m6 119 rfl) rfl
theorem q1478 : (Jvm.Cond.selects "StiltTown" ({ cls := "StiltTown", name := "ends", desc := "(IIII)I" } : Jvm.MethodName) ({ cls := "StiltTown", name := "ends", desc := "(IIII)I" } : Jvm.MethodName)) ∈ lw_all := lw_g (lw_at lw_m6 120 rfl) rfl
theorem q1479 : (Jvm.Cond.code ({ cls := "StiltTown", name := "ends", desc := "(IIII)I" } : Jvm.MethodName) prog_1_method_85_code (11 : Nat) (Option.some Jvm.ClassFile.FieldType.int)) ∈ lw_all := lw_g (lw_at lw_m6 121 rfl) rfl
theorem q1480 : (Jvm.Cond.methodLink "StiltTown" (456 : Nat) ({ cls := "StiltTown", name := "isMark", desc := "(III)Z" } : Jvm.MethodName)) ∈ lw_all := lw_g (lw_at lw_m6 122 rfl) rfl
theorem q1481 : (Jvm.Cond.privateMethod ({ cls := "StiltTown", name := "isMark", desc := "(III)Z" } : Jvm.MethodName)) ∈ lw_tbl := lw_at lw_m6 123 rfl
theorem q1482 : (Jvm.Cond.instanceMethod ({ cls := "StiltTown", name := "isMark", desc := "(III)Z" } : Jvm.MethodName)) ∈ lw_all := lw_g (lw_at lw_m6 124 rfl) rfl
theorem q1483 : (Jvm.Cond.code ({ cls := "StiltTown", name := "isMark", desc := "(III)Z" } : Jvm.MethodName) prog_1_method_86_code (5 : Nat) (Option.some Jvm.ClassFile.FieldType.boolean)) ∈ lw_all := lw_g (lw_at lw_m6 125 rfl) rfl
theorem q1485 : (Jvm.Cond.instanceMethod ({ cls := "StiltTown", name := "years", desc := "(II)I" } : Jvm.MethodName)) ∈ lw_all := lw_g (lw_at lw_m6 127 rfl) rfl
theorem q1486 : (Jvm.Cond.selects "StiltTown" ({ cls := "StiltTown", name := "years", desc := "(II)I" } : Jvm.MethodName) ({ cls := "StiltTown", name := "years", desc := "(II)I" } : Jvm.MethodName)) ∈ lw_all := lw_g (lw_at lw_m6 128 rfl) rfl
theorem q1487 : (Jvm.Cond.code ({ cls := "StiltTown", name := "years", desc := "(II)I" } : Jvm.MethodName) prog_1_method_90_code (5 : Nat) (Option.some Jvm.ClassFile.FieldType.int)) ∈ lw_all := lw_g (lw_at lw_m6 129 rfl) rfl
theorem q1488 : (Jvm.Cond.methodLink "StiltTown" (466 : Nat) ({ cls := "StiltTown", name := "yearBy", desc := "(II)I" } : Jvm.MethodName)) ∈ lw_all := lw_g (lw_at lw_m6 130 rfl) rfl
theorem q1489 : (Jvm.Cond.privateMethod ({ cls := "StiltTown", name := "yearBy", desc := "(II)I" } : Jvm.MethodName)) ∈ lw_tbl := lw_at lw_m6 131 rfl
theorem q1490 : (Jvm.Cond.instanceMethod ({ cls := "StiltTown", name := "yearBy", desc := "(II)I" } : Jvm.MethodName)) ∈ lw_all := lw_g (lw_at lw_m6 132 rfl) rfl
theorem q1491 : (Jvm.Cond.code ({ cls := "StiltTown", name := "yearBy", desc := "(II)I" } : Jvm.MethodName) prog_1_method_89_code (8 : Nat) (Option.some Jvm.ClassFile.FieldType.int)) ∈ lw_all := lw_g (lw_at lw_m6 133 rfl) rfl
theorem q1492 : (Jvm.Cond.methodLink "StiltTown" (463 : Nat) ({ cls := "StiltTown", name := "lot", desc := "(III)I" } : Jvm.MethodName)) ∈ lw_all := lw_g (lw_at lw_m6 134 rfl) rfl
theorem q1493 : (Jvm.Cond.static ({ cls := "StiltTown", name := "lot", desc := "(III)I" } : Jvm.MethodName)) ∈ lw_all := lw_g (lw_at lw_m6 135 rfl) rfl
theorem q1494 : (Jvm.Cond.code ({ cls := "StiltTown", name := "lot", desc := "(III)I" } : Jvm.MethodName) prog_1_method_88_code (3 : Nat) (Option.some Jvm.ClassFile.FieldType.int)) ∈ lw_all := lw_g (lw_at lw_m6 136 rfl) rfl
theorem q1495 : (Jvm.Cond.methodLink "StiltTown" (460 : Nat) ({ cls := "StiltTown", name := "mixed", desc := "(II)I" } : Jvm.MethodName)) ∈ lw_all := lw_g (lw_at lw_m6 137 rfl) rfl
theorem q1496 : (Jvm.Cond.static ({ cls := "StiltTown", name := "mixed", desc := "(II)I" } : Jvm.MethodName)) ∈ lw_all := lw_g (lw_at lw_m6 138 rfl) rfl
theorem q1497 : (Jvm.Cond.code ({ cls := "StiltTown", name := "mixed", desc := "(II)I" } : Jvm.MethodName) prog_1_method_87_code (3 : Nat) (Option.some Jvm.ClassFile.FieldType.int)) ∈ lw_all := lw_g (lw_at lw_m6 139 rfl) rfl
theorem q1498 : (Jvm.Cond.constant "StiltTown" (459 : Nat) (1103515245 : Int32)) ∈ lw_all := lw_g (lw_at lw_m6 140 rfl) rfl
theorem q1500 : (Jvm.Cond.instanceMethod ({ cls := "StiltTown", name := "hold", desc := "(I)Z" } : Jvm.MethodName)) ∈ lw_all := lw_g (lw_at lw_m6 142 rfl) rfl
theorem q1501 : (Jvm.Cond.selects "StiltTown" ({ cls := "StiltTown", name := "hold", desc := "(I)Z" } : Jvm.MethodName) ({ cls := "StiltTown", name := "hold", desc := "(I)Z" } : Jvm.MethodName)) ∈ lw_all := lw_g (lw_at lw_m6 143 rfl) rfl
theorem q1502 : (Jvm.Cond.code ({ cls := "StiltTown", name := "hold", desc := "(I)Z" } : Jvm.MethodName) prog_1_method_91_code (2 : Nat) (Option.some Jvm.ClassFile.FieldType.boolean)) ∈ lw_all := lw_g (lw_at lw_m6 144 rfl) rfl
theorem q1503 : (Jvm.Cond.methodLink "StiltTown" (469 : Nat) ({ cls := "StiltTown$State", name := "twin", desc := "()LStiltTown$State;" } : Jvm.MethodName)) ∈ lw_all := lw_g (lw_at lw_m6 145 rfl) rfl
theorem q1526 : (Jvm.Cond.instanceMethod ({ cls := "StiltTown", name := "restore", desc := "(I)Z" } : Jvm.MethodName)) ∈ lw_all := lw_g (lw_at lw_m6 168 rfl) rfl
theorem q1527 : (Jvm.Cond.selects "StiltTown" ({ cls := "StiltTown", name := "restore", desc := "(I)Z" } : Jvm.MethodName) ({ cls := "StiltTown", name := "restore", desc := "(I)Z" } : Jvm.MethodName)) ∈ lw_all := lw_g (lw_at lw_m6 169 rfl) rfl
theorem q1528 : (Jvm.Cond.code ({ cls := "StiltTown", name := "restore", desc := "(I)Z" } : Jvm.MethodName) prog_1_method_92_code (2 : Nat) (Option.some Jvm.ClassFile.FieldType.boolean)) ∈ lw_all := lw_g (lw_at lw_m6 170 rfl) rfl
theorem q1530 : (Jvm.Cond.instanceMethod ({ cls := "StiltTown", name := "count", desc := "(I)I" } : Jvm.MethodName)) ∈ lw_all := lw_g (lw_at lw_m6 172 rfl) rfl
theorem q1531 : (Jvm.Cond.selects "StiltTown" ({ cls := "StiltTown", name := "count", desc := "(I)I" } : Jvm.MethodName) ({ cls := "StiltTown", name := "count", desc := "(I)I" } : Jvm.MethodName)) ∈ lw_all := lw_g (lw_at lw_m6 173 rfl) rfl
theorem q1532 : (Jvm.Cond.code ({ cls := "StiltTown", name := "count", desc := "(I)I" } : Jvm.MethodName) prog_1_method_93_code (2 : Nat) (Option.some Jvm.ClassFile.FieldType.int)) ∈ lw_all := lw_g (lw_at lw_m6 174 rfl) rfl
theorem q2288 : (Jvm.Cond.castable "StiltTown" "java/lang/Object") ∈ lw_tbl := lw_at lw_m9 210 rfl
theorem in_X0 : ∀ w ∈ wsX00, w ∈ lw_all := lw_in wsX00 [495, 497, 499, 501, 503, 505, 507, 509, 511, 513, 515, 517, 519, 521, 523, 525, 527, 529, 531, 533] (by decide +kernel) (by decide +kernel)

theorem q160 : (Jvm.Cond.initialized "StiltTown$Scanner") ∈ lw_all := lw_g (lw_at lw_m1 2 rfl) rfl
theorem q205 : (Jvm.Cond.instantiable "StiltTown$Scanner" (6 : Nat)) ∈ lw_all := lw_g (lw_at lw_m1 47 rfl) rfl
theorem q207 : (Jvm.Cond.instanceMethod ({ cls := "StiltTown$Scanner", name := "<init>", desc := "()V" } : Jvm.MethodName)) ∈ lw_all := lw_g (lw_at lw_m1 49 rfl) rfl
theorem q208 : (Jvm.Cond.code ({ cls := "StiltTown$Scanner", name := "<init>", desc := "()V" } : Jvm.MethodName) prog_11_method_1_code (1 : Nat) (Option.none : Option Jvm.ClassFile.FieldType)) ∈ lw_all := lw_g (lw_at lw_m1 50 rfl) rfl
theorem q209 : (Jvm.Cond.methodLink "StiltTown$Scanner" (3 : Nat) ({ cls := "java/lang/Object", name := "<init>", desc := "()V" } : Jvm.MethodName)) ∈ lw_all := lw_g (lw_at lw_m1 51 rfl) rfl
theorem q210 : (Jvm.Cond.fieldLink "StiltTown$Scanner" (11 : Nat) "StiltTown$Scanner" "tape" "[B") ∈ lw_all := lw_g (lw_at lw_m1 52 rfl) rfl
theorem q211 : (Jvm.Cond.fieldLink "StiltTown$Scanner" (26 : Nat) "StiltTown$Scanner" "taped" "I") ∈ lw_all := lw_g (lw_at lw_m1 53 rfl) rfl
theorem q213 : (Jvm.Cond.fieldLink "StiltTown$Scanner" (15 : Nat) "StiltTown$Scanner" "kinds" "[S") ∈ lw_all := lw_g (lw_at lw_m1 55 rfl) rfl
theorem q215 : (Jvm.Cond.fieldLink "StiltTown$Scanner" (19 : Nat) "StiltTown$Scanner" "places" "[S") ∈ lw_all := lw_g (lw_at lw_m1 57 rfl) rfl
theorem q217 : (Jvm.Cond.fieldLink "StiltTown$Scanner" (22 : Nat) "StiltTown$Scanner" "values" "[J") ∈ lw_all := lw_g (lw_at lw_m1 59 rfl) rfl
theorem q219 : (Jvm.Cond.fieldLink "StiltTown$Scanner" (38 : Nat) "StiltTown$Scanner" "count" "I") ∈ lw_all := lw_g (lw_at lw_m1 61 rfl) rfl
theorem q220 : (Jvm.Cond.laysFinal "StiltTown$Scanner" "StiltTown$Scanner" "tape" "[B") ∈ lw_all := lw_g (lw_at lw_m1 62 rfl) rfl
theorem q221 : (Jvm.Cond.soleField "StiltTown$Scanner" "tape") ∈ lw_all := lw_g (lw_at lw_m1 63 rfl) rfl
theorem q222 : (Jvm.Cond.lays "StiltTown$Scanner" "StiltTown$Scanner" "taped" "I") ∈ lw_all := lw_g (lw_at lw_m1 64 rfl) rfl
theorem q223 : (Jvm.Cond.soleField "StiltTown$Scanner" "taped") ∈ lw_all := lw_g (lw_at lw_m1 65 rfl) rfl
theorem q224 : (Jvm.Cond.laysFinal "StiltTown$Scanner" "StiltTown$Scanner" "kinds" "[S") ∈ lw_all := lw_g (lw_at lw_m1 66 rfl) rfl
theorem q225 : (Jvm.Cond.soleField "StiltTown$Scanner" "kinds") ∈ lw_all := lw_g (lw_at lw_m1 67 rfl) rfl
theorem q226 : (Jvm.Cond.laysFinal "StiltTown$Scanner" "StiltTown$Scanner" "places" "[S") ∈ lw_all := lw_g (lw_at lw_m1 68 rfl) rfl
theorem q227 : (Jvm.Cond.soleField "StiltTown$Scanner" "places") ∈ lw_all := lw_g (lw_at lw_m1 69 rfl) rfl
theorem q228 : (Jvm.Cond.laysFinal "StiltTown$Scanner" "StiltTown$Scanner" "values" "[J") ∈ lw_all := lw_g (lw_at lw_m1 70 rfl) rfl
theorem q229 : (Jvm.Cond.soleField "StiltTown$Scanner" "values") ∈ lw_all := lw_g (lw_at lw_m1 71 rfl) rfl
theorem q230 : (Jvm.Cond.lays "StiltTown$Scanner" "StiltTown$Scanner" "count" "I") ∈ lw_all := lw_g (lw_at lw_m1 72 rfl) rfl
theorem q231 : (Jvm.Cond.soleField "StiltTown$Scanner" "count") ∈ lw_all := lw_g (lw_at lw_m1 73 rfl) rfl
theorem q232 : (Jvm.Cond.superclass "StiltTown$Scanner" "java/lang/Object") ∈ lw_all := lw_g (lw_at lw_m1 74 rfl) rfl
theorem q541 : (Jvm.Cond.instanceMethod ({ cls := "StiltTown$Scanner", name := "feed", desc := "(IIIII)I" } : Jvm.MethodName)) ∈ lw_all := lw_g (lw_at lw_m2 143 rfl) rfl
theorem q542 : (Jvm.Cond.selects "StiltTown$Scanner" ({ cls := "StiltTown$Scanner", name := "feed", desc := "(IIIII)I" } : Jvm.MethodName) ({ cls := "StiltTown$Scanner", name := "feed", desc := "(IIIII)I" } : Jvm.MethodName)) ∈ lw_all := lw_g (lw_at lw_m2 144 rfl) rfl
theorem q543 : (Jvm.Cond.code ({ cls := "StiltTown$Scanner", name := "feed", desc := "(IIIII)I" } : Jvm.MethodName) prog_11_method_2_code (6 : Nat) (Option.some Jvm.ClassFile.FieldType.int)) ∈ lw_all := lw_g (lw_at lw_m2 145 rfl) rfl
theorem q544 : (Jvm.Cond.methodLink "StiltTown$Scanner" (30 : Nat) ({ cls := "StiltTown$Scanner", name := "put", desc := "(I)V" } : Jvm.MethodName)) ∈ lw_all := lw_g (lw_at lw_m2 146 rfl) rfl
theorem q545 : (Jvm.Cond.privateMethod ({ cls := "StiltTown$Scanner", name := "put", desc := "(I)V" } : Jvm.MethodName)) ∈ lw_tbl := lw_at lw_m2 147 rfl
theorem q546 : (Jvm.Cond.instanceMethod ({ cls := "StiltTown$Scanner", name := "put", desc := "(I)V" } : Jvm.MethodName)) ∈ lw_all := lw_g (lw_at lw_m2 148 rfl) rfl
theorem q547 : (Jvm.Cond.code ({ cls := "StiltTown$Scanner", name := "put", desc := "(I)V" } : Jvm.MethodName) prog_11_method_3_code (3 : Nat) (Option.none : Option Jvm.ClassFile.FieldType)) ∈ lw_all := lw_g (lw_at lw_m2 149 rfl) rfl
theorem q553 : (Jvm.Cond.instanceMethod ({ cls := "StiltTown$Scanner", name := "back", desc := "(I)I" } : Jvm.MethodName)) ∈ lw_all := lw_g (lw_at lw_m2 155 rfl) rfl
theorem q554 : (Jvm.Cond.selects "StiltTown$Scanner" ({ cls := "StiltTown$Scanner", name := "back", desc := "(I)I" } : Jvm.MethodName) ({ cls := "StiltTown$Scanner", name := "back", desc := "(I)I" } : Jvm.MethodName)) ∈ lw_all := lw_g (lw_at lw_m2 156 rfl) rfl
theorem q555 : (Jvm.Cond.code ({ cls := "StiltTown$Scanner", name := "back", desc := "(I)I" } : Jvm.MethodName) prog_11_method_4_code (2 : Nat) (Option.some Jvm.ClassFile.FieldType.int)) ∈ lw_all := lw_g (lw_at lw_m2 157 rfl) rfl
theorem q556 : (Jvm.Cond.methodLinkNest "StiltTown$Scanner" (34 : Nat) ({ cls := "StiltTown", name := "within", desc := "(III)Z" } : Jvm.MethodName) "StiltTown") ∈ lw_tbl := lw_at lw_m2 158 rfl
theorem q565 : (Jvm.Cond.instanceMethod ({ cls := "StiltTown$Scanner", name := "cut", desc := "()V" } : Jvm.MethodName)) ∈ lw_all := lw_g (lw_at lw_m2 167 rfl) rfl
theorem q566 : (Jvm.Cond.selects "StiltTown$Scanner" ({ cls := "StiltTown$Scanner", name := "cut", desc := "()V" } : Jvm.MethodName) ({ cls := "StiltTown$Scanner", name := "cut", desc := "()V" } : Jvm.MethodName)) ∈ lw_all := lw_g (lw_at lw_m2 168 rfl) rfl
theorem q567 : (Jvm.Cond.code ({ cls := "StiltTown$Scanner", name := "cut", desc := "()V" } : Jvm.MethodName) prog_11_method_9_code (2 : Nat) (Option.none : Option Jvm.ClassFile.FieldType)) ∈ lw_all := lw_g (lw_at lw_m2 169 rfl) rfl
theorem q568 : (Jvm.Cond.methodLink "StiltTown$Scanner" (41 : Nat) ({ cls := "StiltTown$Scanner", name := "add", desc := "(IIJ)V" } : Jvm.MethodName)) ∈ lw_all := lw_g (lw_at lw_m2 170 rfl) rfl
theorem q569 : (Jvm.Cond.privateMethod ({ cls := "StiltTown$Scanner", name := "add", desc := "(IIJ)V" } : Jvm.MethodName)) ∈ lw_tbl := lw_at lw_m2 171 rfl
theorem q570 : (Jvm.Cond.instanceMethod ({ cls := "StiltTown$Scanner", name := "add", desc := "(IIJ)V" } : Jvm.MethodName)) ∈ lw_all := lw_g (lw_at lw_m2 172 rfl) rfl
theorem q571 : (Jvm.Cond.code ({ cls := "StiltTown$Scanner", name := "add", desc := "(IIJ)V" } : Jvm.MethodName) prog_11_method_8_code (5 : Nat) (Option.none : Option Jvm.ClassFile.FieldType)) ∈ lw_all := lw_g (lw_at lw_m2 173 rfl) rfl
theorem q572 : (Jvm.Cond.methodLink "StiltTown$Scanner" (45 : Nat) ({ cls := "StiltTown$Scanner", name := "isLetter", desc := "(I)Z" } : Jvm.MethodName)) ∈ lw_all := lw_g (lw_at lw_m2 174 rfl) rfl
theorem q573 : (Jvm.Cond.static ({ cls := "StiltTown$Scanner", name := "isLetter", desc := "(I)Z" } : Jvm.MethodName)) ∈ lw_all := lw_g (lw_at lw_m2 175 rfl) rfl
theorem q574 : (Jvm.Cond.code ({ cls := "StiltTown$Scanner", name := "isLetter", desc := "(I)Z" } : Jvm.MethodName) prog_11_method_6_code (1 : Nat) (Option.some Jvm.ClassFile.FieldType.boolean)) ∈ lw_all := lw_g (lw_at lw_m2 176 rfl) rfl
theorem q575 : (Jvm.Cond.methodLink "StiltTown$Scanner" (49 : Nat) ({ cls := "StiltTown$Scanner", name := "word", desc := "(I)I" } : Jvm.MethodName)) ∈ lw_all := lw_g (lw_at lw_m2 177 rfl) rfl
theorem q576 : (Jvm.Cond.privateMethod ({ cls := "StiltTown$Scanner", name := "word", desc := "(I)I" } : Jvm.MethodName)) ∈ lw_tbl := lw_at lw_m2 178 rfl
theorem q577 : (Jvm.Cond.instanceMethod ({ cls := "StiltTown$Scanner", name := "word", desc := "(I)I" } : Jvm.MethodName)) ∈ lw_all := lw_g (lw_at lw_m2 179 rfl) rfl
theorem q578 : (Jvm.Cond.code ({ cls := "StiltTown$Scanner", name := "word", desc := "(I)I" } : Jvm.MethodName) prog_11_method_12_code (7 : Nat) (Option.some Jvm.ClassFile.FieldType.int)) ∈ lw_all := lw_g (lw_at lw_m2 180 rfl) rfl
theorem q579 : (Jvm.Cond.methodLink "StiltTown$Scanner" (62 : Nat) ({ cls := "StiltTown$Scanner", name := "byteAt", desc := "(I)I" } : Jvm.MethodName)) ∈ lw_all := lw_g (lw_at lw_m2 181 rfl) rfl
theorem q580 : (Jvm.Cond.privateMethod ({ cls := "StiltTown$Scanner", name := "byteAt", desc := "(I)I" } : Jvm.MethodName)) ∈ lw_tbl := lw_at lw_m2 182 rfl
theorem q581 : (Jvm.Cond.instanceMethod ({ cls := "StiltTown$Scanner", name := "byteAt", desc := "(I)I" } : Jvm.MethodName)) ∈ lw_all := lw_g (lw_at lw_m2 183 rfl) rfl
theorem q582 : (Jvm.Cond.code ({ cls := "StiltTown$Scanner", name := "byteAt", desc := "(I)I" } : Jvm.MethodName) prog_11_method_5_code (2 : Nat) (Option.some Jvm.ClassFile.FieldType.int)) ∈ lw_all := lw_g (lw_at lw_m2 184 rfl) rfl
theorem q583 : (Jvm.Cond.constantLong "StiltTown$Scanner" (65 : Nat) (27 : Int64)) ∈ lw_all := lw_g (lw_at lw_m2 185 rfl) rfl
theorem q584 : (Jvm.Cond.constantLong "StiltTown$Scanner" (67 : Nat) (97 : Int64)) ∈ lw_all := lw_g (lw_at lw_m2 186 rfl) rfl
theorem q585 : (Jvm.Cond.fieldLink "StiltTown$Scanner" (69 : Nat) "StiltTown$Scanner" "WORDS" "[Ljava/lang/String;") ∈ lw_all := lw_g (lw_at lw_m2 187 rfl) rfl
theorem q586 : (Jvm.Cond.laysStatic "StiltTown$Scanner" "WORDS" "[Ljava/lang/String;") ∈ lw_tbl := lw_at lw_m2 188 rfl
theorem q587 : (Jvm.Cond.methodLink "StiltTown$Scanner" (73 : Nat) ({ cls := "StiltTown$Scanner", name := "is", desc := "(Ljava/lang/String;II)Z" } : Jvm.MethodName)) ∈ lw_all := lw_g (lw_at lw_m2 189 rfl) rfl
theorem q588 : (Jvm.Cond.privateMethod ({ cls := "StiltTown$Scanner", name := "is", desc := "(Ljava/lang/String;II)Z" } : Jvm.MethodName)) ∈ lw_tbl := lw_at lw_m2 190 rfl
theorem q589 : (Jvm.Cond.instanceMethod ({ cls := "StiltTown$Scanner", name := "is", desc := "(Ljava/lang/String;II)Z" } : Jvm.MethodName)) ∈ lw_all := lw_g (lw_at lw_m2 191 rfl) rfl
theorem q590 : (Jvm.Cond.code ({ cls := "StiltTown$Scanner", name := "is", desc := "(Ljava/lang/String;II)Z" } : Jvm.MethodName) prog_11_method_13_code (6 : Nat) (Option.some Jvm.ClassFile.FieldType.boolean)) ∈ lw_all := lw_g (lw_at lw_m2 192 rfl) rfl
theorem q591 : (Jvm.Cond.methodLink "StiltTown$Scanner" (77 : Nat) ({ cls := "java/lang/String", name := "length", desc := "()I" } : Jvm.MethodName)) ∈ lw_all := lw_g (lw_at lw_m2 193 rfl) rfl
theorem q601 : (Jvm.Cond.methodLink "StiltTown$Scanner" (83 : Nat) ({ cls := "java/lang/String", name := "charAt", desc := "(I)C" } : Jvm.MethodName)) ∈ lw_all := lw_g (lw_at lw_m2 203 rfl) rfl
theorem q639 : (Jvm.Cond.methodLink "StiltTown$Scanner" (53 : Nat) ({ cls := "StiltTown$Scanner", name := "isDigit", desc := "(I)Z" } : Jvm.MethodName)) ∈ lw_all := lw_g (lw_at lw_m3 1 rfl) rfl
theorem q640 : (Jvm.Cond.static ({ cls := "StiltTown$Scanner", name := "isDigit", desc := "(I)Z" } : Jvm.MethodName)) ∈ lw_all := lw_g (lw_at lw_m3 2 rfl) rfl
theorem q641 : (Jvm.Cond.code ({ cls := "StiltTown$Scanner", name := "isDigit", desc := "(I)Z" } : Jvm.MethodName) prog_11_method_7_code (1 : Nat) (Option.some Jvm.ClassFile.FieldType.boolean)) ∈ lw_all := lw_g (lw_at lw_m3 3 rfl) rfl
theorem q642 : (Jvm.Cond.methodLink "StiltTown$Scanner" (56 : Nat) ({ cls := "StiltTown$Scanner", name := "number", desc := "(I)I" } : Jvm.MethodName)) ∈ lw_all := lw_g (lw_at lw_m3 4 rfl) rfl
theorem q643 : (Jvm.Cond.privateMethod ({ cls := "StiltTown$Scanner", name := "number", desc := "(I)I" } : Jvm.MethodName)) ∈ lw_tbl := lw_at lw_m3 5 rfl
theorem q644 : (Jvm.Cond.instanceMethod ({ cls := "StiltTown$Scanner", name := "number", desc := "(I)I" } : Jvm.MethodName)) ∈ lw_all := lw_g (lw_at lw_m3 6 rfl) rfl
theorem q645 : (Jvm.Cond.code ({ cls := "StiltTown$Scanner", name := "number", desc := "(I)I" } : Jvm.MethodName) prog_11_method_11_code (4 : Nat) (Option.some Jvm.ClassFile.FieldType.int)) ∈ lw_all := lw_g (lw_at lw_m3 7 rfl) rfl
theorem q646 : (Jvm.Cond.methodLink "StiltTown$Scanner" (59 : Nat) ({ cls := "StiltTown$Scanner", name := "sign", desc := "(I)I" } : Jvm.MethodName)) ∈ lw_all := lw_g (lw_at lw_m3 8 rfl) rfl
theorem q647 : (Jvm.Cond.privateMethod ({ cls := "StiltTown$Scanner", name := "sign", desc := "(I)I" } : Jvm.MethodName)) ∈ lw_tbl := lw_at lw_m3 9 rfl
theorem q648 : (Jvm.Cond.instanceMethod ({ cls := "StiltTown$Scanner", name := "sign", desc := "(I)I" } : Jvm.MethodName)) ∈ lw_all := lw_g (lw_at lw_m3 10 rfl) rfl
theorem q649 : (Jvm.Cond.code ({ cls := "StiltTown$Scanner", name := "sign", desc := "(I)I" } : Jvm.MethodName) prog_11_method_10_code (4 : Nat) (Option.some Jvm.ClassFile.FieldType.int)) ∈ lw_all := lw_g (lw_at lw_m3 11 rfl) rfl
theorem q838 : (Jvm.Cond.selects "StiltTown$Scanner" ({ cls := "java/lang/Object", name := "getClass", desc := "()Ljava/lang/Class;" } : Jvm.MethodName) ({ cls := "java/lang/Object", name := "getClass", desc := "()Ljava/lang/Class;" } : Jvm.MethodName)) ∈ lw_all := lw_g (lw_at lw_m3 200 rfl) rfl
theorem q2289 : (Jvm.Cond.castable "StiltTown$Scanner" "java/lang/Object") ∈ lw_tbl := lw_at lw_m9 211 rfl
theorem q2323 : (Jvm.Cond.stringRef "StiltTown$Scanner" (87 : Nat) "house") ∈ lw_tbl := lw_at lw_m10 5 rfl
theorem q2324 : (Jvm.Cond.stringRef "StiltTown$Scanner" (89 : Nat) "office") ∈ lw_tbl := lw_at lw_m10 6 rfl
theorem q2325 : (Jvm.Cond.stringRef "StiltTown$Scanner" (91 : Nat) "in") ∈ lw_tbl := lw_at lw_m10 7 rfl
theorem q2326 : (Jvm.Cond.stringRef "StiltTown$Scanner" (93 : Nat) "stair") ∈ lw_tbl := lw_at lw_m10 8 rfl
theorem q2327 : (Jvm.Cond.stringRef "StiltTown$Scanner" (95 : Nat) "ground") ∈ lw_tbl := lw_at lw_m10 9 rfl
theorem q2328 : (Jvm.Cond.stringRef "StiltTown$Scanner" (97 : Nat) "quay") ∈ lw_tbl := lw_at lw_m10 10 rfl
theorem q2329 : (Jvm.Cond.stringRef "StiltTown$Scanner" (99 : Nat) "wood") ∈ lw_tbl := lw_at lw_m10 11 rfl
theorem q2330 : (Jvm.Cond.stringRef "StiltTown$Scanner" (101 : Nat) "crews") ∈ lw_tbl := lw_at lw_m10 12 rfl
theorem q2331 : (Jvm.Cond.stringRef "StiltTown$Scanner" (103 : Nat) "jack") ∈ lw_tbl := lw_at lw_m10 13 rfl
theorem q2332 : (Jvm.Cond.stringRef "StiltTown$Scanner" (105 : Nat) "tide") ∈ lw_tbl := lw_at lw_m10 14 rfl
theorem q2333 : (Jvm.Cond.stringRef "StiltTown$Scanner" (107 : Nat) "due") ∈ lw_tbl := lw_at lw_m10 15 rfl
theorem q2334 : (Jvm.Cond.stringRef "StiltTown$Scanner" (109 : Nat) "sway") ∈ lw_tbl := lw_at lw_m10 16 rfl
theorem q2335 : (Jvm.Cond.stringRef "StiltTown$Scanner" (111 : Nat) "falls") ∈ lw_tbl := lw_at lw_m10 17 rfl
theorem q2336 : (Jvm.Cond.stringRef "StiltTown$Scanner" (113 : Nat) "bad") ∈ lw_tbl := lw_at lw_m10 18 rfl
theorem q2337 : (Jvm.Cond.stringRef "StiltTown$Scanner" (115 : Nat) "if") ∈ lw_tbl := lw_at lw_m10 19 rfl
theorem q2338 : (Jvm.Cond.stringRef "StiltTown$Scanner" (117 : Nat) "or") ∈ lw_tbl := lw_at lw_m10 20 rfl
theorem q2339 : (Jvm.Cond.stringRef "StiltTown$Scanner" (119 : Nat) "and") ∈ lw_tbl := lw_at lw_m10 21 rfl
theorem q2340 : (Jvm.Cond.stringRef "StiltTown$Scanner" (121 : Nat) "not") ∈ lw_tbl := lw_at lw_m10 22 rfl
theorem q2341 : (Jvm.Cond.stringRef "StiltTown$Scanner" (123 : Nat) "height") ∈ lw_tbl := lw_at lw_m10 23 rfl
theorem q2342 : (Jvm.Cond.stringRef "StiltTown$Scanner" (125 : Nat) "rank") ∈ lw_tbl := lw_at lw_m10 24 rfl
theorem q2343 : (Jvm.Cond.stringRef "StiltTown$Scanner" (127 : Nat) "load") ∈ lw_tbl := lw_at lw_m10 25 rfl
theorem q2344 : (Jvm.Cond.stringRef "StiltTown$Scanner" (129 : Nat) "x") ∈ lw_tbl := lw_at lw_m10 26 rfl
theorem q2345 : (Jvm.Cond.stringRef "StiltTown$Scanner" (131 : Nat) "hour") ∈ lw_tbl := lw_at lw_m10 27 rfl
theorem q2346 : (Jvm.Cond.stringRef "StiltTown$Scanner" (133 : Nat) "month") ∈ lw_tbl := lw_at lw_m10 28 rfl
theorem q2347 : (Jvm.Cond.stringRef "StiltTown$Scanner" (135 : Nat) "wind") ∈ lw_tbl := lw_at lw_m10 29 rfl
theorem q2348 : (Jvm.Cond.stringRef "StiltTown$Scanner" (137 : Nat) "gone") ∈ lw_tbl := lw_at lw_m10 30 rfl
theorem in_X1 : ∀ w ∈ wsX10, w ∈ lw_all := lw_in wsX10 [220, 222, 224, 226, 228, 230] (by decide +kernel) (by decide +kernel)

theorem q161 : (Jvm.Cond.initialized "StiltTown$Reader") ∈ lw_all := lw_g (lw_at lw_m1 3 rfl) rfl
theorem q214 : (Jvm.Cond.fieldLinkNest "StiltTown$Reader" (23 : Nat) "StiltTown$Scanner" "kinds" "[S" "StiltTown") ∈ lw_tbl := lw_at lw_m1 56 rfl
theorem q216 : (Jvm.Cond.fieldLinkNest "StiltTown$Reader" (35 : Nat) "StiltTown$Scanner" "places" "[S" "StiltTown") ∈ lw_tbl := lw_at lw_m1 58 rfl
theorem q218 : (Jvm.Cond.fieldLinkNest "StiltTown$Reader" (63 : Nat) "StiltTown$Scanner" "values" "[J" "StiltTown") ∈ lw_tbl := lw_at lw_m1 60 rfl
theorem q237 : (Jvm.Cond.instantiable "StiltTown$Reader" (9 : Nat)) ∈ lw_all := lw_g (lw_at lw_m1 79 rfl) rfl
theorem q239 : (Jvm.Cond.instanceMethod ({ cls := "StiltTown$Reader", name := "<init>", desc := "(LStiltTown$Scanner;)V" } : Jvm.MethodName)) ∈ lw_all := lw_g (lw_at lw_m1 81 rfl) rfl
theorem q240 : (Jvm.Cond.code ({ cls := "StiltTown$Reader", name := "<init>", desc := "(LStiltTown$Scanner;)V" } : Jvm.MethodName) prog_10_method_1_code (2 : Nat) (Option.none : Option Jvm.ClassFile.FieldType)) ∈ lw_all := lw_g (lw_at lw_m1 82 rfl) rfl
theorem q241 : (Jvm.Cond.methodLink "StiltTown$Reader" (3 : Nat) ({ cls := "java/lang/Object", name := "<init>", desc := "()V" } : Jvm.MethodName)) ∈ lw_all := lw_g (lw_at lw_m1 83 rfl) rfl
theorem q242 : (Jvm.Cond.fieldLink "StiltTown$Reader" (19 : Nat) "StiltTown$Reader" "scanner" "LStiltTown$Scanner;") ∈ lw_all := lw_g (lw_at lw_m1 84 rfl) rfl
theorem q243 : (Jvm.Cond.fieldLink "StiltTown$Reader" (29 : Nat) "StiltTown$Reader" "at" "I") ∈ lw_all := lw_g (lw_at lw_m1 85 rfl) rfl
theorem q244 : (Jvm.Cond.fieldLink "StiltTown$Reader" (73 : Nat) "StiltTown$Reader" "deep" "I") ∈ lw_all := lw_g (lw_at lw_m1 86 rfl) rfl
theorem q245 : (Jvm.Cond.fieldLink "StiltTown$Reader" (41 : Nat) "StiltTown$Reader" "wrongKind" "I") ∈ lw_all := lw_g (lw_at lw_m1 87 rfl) rfl
theorem q246 : (Jvm.Cond.fieldLink "StiltTown$Reader" (44 : Nat) "StiltTown$Reader" "wrongPlace" "I") ∈ lw_all := lw_g (lw_at lw_m1 88 rfl) rfl
theorem q247 : (Jvm.Cond.fieldLink "StiltTown$Reader" (82 : Nat) "StiltTown$Reader" "town" "LStiltTown$Town;") ∈ lw_all := lw_g (lw_at lw_m1 89 rfl) rfl
theorem q248 : (Jvm.Cond.fieldLink "StiltTown$Reader" (9 : Nat) "StiltTown$Reader" "names" "[J") ∈ lw_all := lw_g (lw_at lw_m1 90 rfl) rfl
theorem q249 : (Jvm.Cond.fieldLink "StiltTown$Reader" (15 : Nat) "StiltTown$Reader" "named" "[I") ∈ lw_all := lw_g (lw_at lw_m1 91 rfl) rfl
theorem q250 : (Jvm.Cond.fieldLink "StiltTown$Reader" (76 : Nat) "StiltTown$Reader" "many" "I") ∈ lw_all := lw_g (lw_at lw_m1 92 rfl) rfl
theorem q251 : (Jvm.Cond.laysFinal "StiltTown$Reader" "StiltTown$Reader" "scanner" "LStiltTown$Scanner;") ∈ lw_all := lw_g (lw_at lw_m1 93 rfl) rfl
theorem q252 : (Jvm.Cond.soleField "StiltTown$Reader" "scanner") ∈ lw_all := lw_g (lw_at lw_m1 94 rfl) rfl
theorem q253 : (Jvm.Cond.lays "StiltTown$Reader" "StiltTown$Reader" "at" "I") ∈ lw_all := lw_g (lw_at lw_m1 95 rfl) rfl
theorem q254 : (Jvm.Cond.soleField "StiltTown$Reader" "at") ∈ lw_all := lw_g (lw_at lw_m1 96 rfl) rfl
theorem q255 : (Jvm.Cond.lays "StiltTown$Reader" "StiltTown$Reader" "deep" "I") ∈ lw_all := lw_g (lw_at lw_m1 97 rfl) rfl
theorem q256 : (Jvm.Cond.soleField "StiltTown$Reader" "deep") ∈ lw_all := lw_g (lw_at lw_m1 98 rfl) rfl
theorem q257 : (Jvm.Cond.lays "StiltTown$Reader" "StiltTown$Reader" "wrongKind" "I") ∈ lw_all := lw_g (lw_at lw_m1 99 rfl) rfl
theorem q258 : (Jvm.Cond.soleField "StiltTown$Reader" "wrongKind") ∈ lw_all := lw_g (lw_at lw_m1 100 rfl) rfl
theorem q259 : (Jvm.Cond.lays "StiltTown$Reader" "StiltTown$Reader" "wrongPlace" "I") ∈ lw_all := lw_g (lw_at lw_m1 101 rfl) rfl
theorem q260 : (Jvm.Cond.soleField "StiltTown$Reader" "wrongPlace") ∈ lw_all := lw_g (lw_at lw_m1 102 rfl) rfl
theorem q261 : (Jvm.Cond.lays "StiltTown$Reader" "StiltTown$Reader" "town" "LStiltTown$Town;") ∈ lw_all := lw_g (lw_at lw_m1 103 rfl) rfl
theorem q262 : (Jvm.Cond.soleField "StiltTown$Reader" "town") ∈ lw_all := lw_g (lw_at lw_m1 104 rfl) rfl
theorem q263 : (Jvm.Cond.laysFinal "StiltTown$Reader" "StiltTown$Reader" "names" "[J") ∈ lw_all := lw_g (lw_at lw_m1 105 rfl) rfl
theorem q264 : (Jvm.Cond.soleField "StiltTown$Reader" "names") ∈ lw_all := lw_g (lw_at lw_m1 106 rfl) rfl
theorem q265 : (Jvm.Cond.laysFinal "StiltTown$Reader" "StiltTown$Reader" "named" "[I") ∈ lw_all := lw_g (lw_at lw_m1 107 rfl) rfl
theorem q266 : (Jvm.Cond.soleField "StiltTown$Reader" "named") ∈ lw_all := lw_g (lw_at lw_m1 108 rfl) rfl
theorem q267 : (Jvm.Cond.lays "StiltTown$Reader" "StiltTown$Reader" "many" "I") ∈ lw_all := lw_g (lw_at lw_m1 109 rfl) rfl
theorem q268 : (Jvm.Cond.soleField "StiltTown$Reader" "many") ∈ lw_all := lw_g (lw_at lw_m1 110 rfl) rfl
theorem q269 : (Jvm.Cond.superclass "StiltTown$Reader" "java/lang/Object") ∈ lw_all := lw_g (lw_at lw_m1 111 rfl) rfl
theorem q329 : (Jvm.Cond.fieldLinkNest "StiltTown$Reader" (96 : Nat) "StiltTown$Town" "houses" "Ljava/util/ArrayList;" "StiltTown") ∈ lw_tbl := lw_at lw_m1 171 rfl
theorem q331 : (Jvm.Cond.fieldLinkNest "StiltTown$Reader" (144 : Nat) "StiltTown$Town" "stairs" "Ljava/util/ArrayList;" "StiltTown") ∈ lw_tbl := lw_at lw_m1 173 rfl
theorem q335 : (Jvm.Cond.fieldLinkNest "StiltTown$Reader" (157 : Nat) "StiltTown$Town" "woods" "Ljava/util/ArrayList;" "StiltTown") ∈ lw_tbl := lw_at lw_m1 177 rfl
theorem q337 : (Jvm.Cond.fieldLinkNest "StiltTown$Reader" (186 : Nat) "StiltTown$Town" "falls" "Ljava/util/ArrayList;" "StiltTown") ∈ lw_tbl := lw_at lw_m1 179 rfl
theorem q340 : (Jvm.Cond.fieldLinkNest "StiltTown$Reader" (193 : Nat) "StiltTown$Town" "bad" "Ljava/util/ArrayList;" "StiltTown") ∈ lw_tbl := lw_at lw_m1 182 rfl
theorem q344 : (Jvm.Cond.fieldLinkNest "StiltTown$Reader" (128 : Nat) "StiltTown$Town" "rank" "[I" "StiltTown") ∈ lw_tbl := lw_at lw_m1 186 rfl
theorem q346 : (Jvm.Cond.fieldLinkNest "StiltTown$Reader" (125 : Nat) "StiltTown$Town" "offices" "I" "StiltTown") ∈ lw_tbl := lw_at lw_m1 188 rfl
theorem q349 : (Jvm.Cond.fieldLinkNest "StiltTown$Reader" (137 : Nat) "StiltTown$Town" "officeOf" "[I" "StiltTown") ∈ lw_tbl := lw_at lw_m1 191 rfl
theorem q350 : (Jvm.Cond.fieldLinkNest "StiltTown$Reader" (131 : Nat) "StiltTown$Town" "ins" "I" "StiltTown") ∈ lw_tbl := lw_at lw_m1 192 rfl
theorem q352 : (Jvm.Cond.fieldLinkNest "StiltTown$Reader" (153 : Nat) "StiltTown$Town" "isQuay" "[Z" "StiltTown") ∈ lw_tbl := lw_at lw_m1 194 rfl
theorem q354 : (Jvm.Cond.fieldLinkNest "StiltTown$Reader" (150 : Nat) "StiltTown$Town" "quays" "I" "StiltTown") ∈ lw_tbl := lw_at lw_m1 196 rfl
theorem q357 : (Jvm.Cond.fieldLinkNest "StiltTown$Reader" (163 : Nat) "StiltTown$Town" "crews" "I" "StiltTown") ∈ lw_tbl := lw_at lw_m1 199 rfl
theorem q360 : (Jvm.Cond.fieldLinkNest "StiltTown$Reader" (166 : Nat) "StiltTown$Town" "jack" "I" "StiltTown") ∈ lw_tbl := lw_at lw_m1 202 rfl
theorem q363 : (Jvm.Cond.fieldLinkNest "StiltTown$Reader" (176 : Nat) "StiltTown$Town" "tide" "LStiltTown$Term;" "StiltTown") ∈ lw_tbl := lw_at lw_m1 205 rfl
theorem q367 : (Jvm.Cond.fieldLinkNest "StiltTown$Reader" (180 : Nat) "StiltTown$Town" "due" "LStiltTown$Term;" "StiltTown") ∈ lw_tbl := lw_at lw_m1 209 rfl
theorem q369 : (Jvm.Cond.fieldLinkNest "StiltTown$Reader" (183 : Nat) "StiltTown$Town" "sway" "LStiltTown$Term;" "StiltTown") ∈ lw_tbl := lw_at lw_m1 211 rfl
theorem q651 : (Jvm.Cond.instanceMethod ({ cls := "StiltTown$Reader", name := "read", desc := "()LStiltTown$Town;" } : Jvm.MethodName)) ∈ lw_all := lw_g (lw_at lw_m3 13 rfl) rfl
theorem q652 : (Jvm.Cond.selects "StiltTown$Reader" ({ cls := "StiltTown$Reader", name := "read", desc := "()LStiltTown$Town;" } : Jvm.MethodName) ({ cls := "StiltTown$Reader", name := "read", desc := "()LStiltTown$Town;" } : Jvm.MethodName)) ∈ lw_all := lw_g (lw_at lw_m3 14 rfl) rfl
theorem q653 : (Jvm.Cond.code ({ cls := "StiltTown$Reader", name := "read", desc := "()LStiltTown$Town;" } : Jvm.MethodName) prog_10_method_9_code (1 : Nat) (Option.some (Jvm.ClassFile.FieldType.object "StiltTown$Town"))) ∈ lw_all := lw_g (lw_at lw_m3 15 rfl) rfl
theorem q654 : (Jvm.Cond.classLink "StiltTown$Reader" (79 : Nat) "StiltTown$Town") ∈ lw_all := lw_g (lw_at lw_m3 16 rfl) rfl
theorem q655 : (Jvm.Cond.methodLink "StiltTown$Reader" (81 : Nat) ({ cls := "StiltTown$Town", name := "<init>", desc := "()V" } : Jvm.MethodName)) ∈ lw_all := lw_g (lw_at lw_m3 17 rfl) rfl
theorem q656 : (Jvm.Cond.methodLink "StiltTown$Reader" (51 : Nat) ({ cls := "StiltTown$Reader", name := "is", desc := "(I)Z" } : Jvm.MethodName)) ∈ lw_all := lw_g (lw_at lw_m3 18 rfl) rfl
theorem q657 : (Jvm.Cond.privateMethod ({ cls := "StiltTown$Reader", name := "is", desc := "(I)Z" } : Jvm.MethodName)) ∈ lw_tbl := lw_at lw_m3 19 rfl
theorem q658 : (Jvm.Cond.instanceMethod ({ cls := "StiltTown$Reader", name := "is", desc := "(I)Z" } : Jvm.MethodName)) ∈ lw_all := lw_g (lw_at lw_m3 20 rfl) rfl
theorem q659 : (Jvm.Cond.code ({ cls := "StiltTown$Reader", name := "is", desc := "(I)Z" } : Jvm.MethodName) prog_10_method_3_code (2 : Nat) (Option.some Jvm.ClassFile.FieldType.boolean)) ∈ lw_all := lw_g (lw_at lw_m3 21 rfl) rfl
theorem q660 : (Jvm.Cond.methodLink "StiltTown$Reader" (86 : Nat) ({ cls := "StiltTown$Reader", name := "tell", desc := "()V" } : Jvm.MethodName)) ∈ lw_all := lw_g (lw_at lw_m3 22 rfl) rfl
theorem q661 : (Jvm.Cond.privateMethod ({ cls := "StiltTown$Reader", name := "tell", desc := "()V" } : Jvm.MethodName)) ∈ lw_tbl := lw_at lw_m3 23 rfl
theorem q662 : (Jvm.Cond.instanceMethod ({ cls := "StiltTown$Reader", name := "tell", desc := "()V" } : Jvm.MethodName)) ∈ lw_all := lw_g (lw_at lw_m3 24 rfl) rfl
theorem q663 : (Jvm.Cond.code ({ cls := "StiltTown$Reader", name := "tell", desc := "()V" } : Jvm.MethodName) prog_10_method_14_code (3 : Nat) (Option.none : Option Jvm.ClassFile.FieldType)) ∈ lw_all := lw_g (lw_at lw_m3 25 rfl) rfl
theorem q664 : (Jvm.Cond.methodLink "StiltTown$Reader" (93 : Nat) ({ cls := "StiltTown$Reader", name := "kind", desc := "()I" } : Jvm.MethodName)) ∈ lw_all := lw_g (lw_at lw_m3 26 rfl) rfl
theorem q665 : (Jvm.Cond.privateMethod ({ cls := "StiltTown$Reader", name := "kind", desc := "()I" } : Jvm.MethodName)) ∈ lw_tbl := lw_at lw_m3 27 rfl
theorem q666 : (Jvm.Cond.instanceMethod ({ cls := "StiltTown$Reader", name := "kind", desc := "()I" } : Jvm.MethodName)) ∈ lw_all := lw_g (lw_at lw_m3 28 rfl) rfl
theorem q667 : (Jvm.Cond.code ({ cls := "StiltTown$Reader", name := "kind", desc := "()I" } : Jvm.MethodName) prog_10_method_2_code (1 : Nat) (Option.some Jvm.ClassFile.FieldType.int)) ∈ lw_all := lw_g (lw_at lw_m3 29 rfl) rfl
theorem q668 : (Jvm.Cond.methodLink "StiltTown$Reader" (100 : Nat) ({ cls := "java/util/ArrayList", name := "size", desc := "()I" } : Jvm.MethodName)) ∈ lw_all := lw_g (lw_at lw_m3 30 rfl) rfl
theorem q672 : (Jvm.Cond.methodLink "StiltTown$Reader" (105 : Nat) ({ cls := "StiltTown$Reader", name := "room", desc := "(II)V" } : Jvm.MethodName)) ∈ lw_all := lw_g (lw_at lw_m3 34 rfl) rfl
theorem q673 : (Jvm.Cond.privateMethod ({ cls := "StiltTown$Reader", name := "room", desc := "(II)V" } : Jvm.MethodName)) ∈ lw_tbl := lw_at lw_m3 35 rfl
theorem q674 : (Jvm.Cond.instanceMethod ({ cls := "StiltTown$Reader", name := "room", desc := "(II)V" } : Jvm.MethodName)) ∈ lw_all := lw_g (lw_at lw_m3 36 rfl) rfl
theorem q675 : (Jvm.Cond.code ({ cls := "StiltTown$Reader", name := "room", desc := "(II)V" } : Jvm.MethodName) prog_10_method_10_code (3 : Nat) (Option.none : Option Jvm.ClassFile.FieldType)) ∈ lw_all := lw_g (lw_at lw_m3 37 rfl) rfl
theorem q676 : (Jvm.Cond.methodLink "StiltTown$Reader" (47 : Nat) ({ cls := "StiltTown$Reader", name := "fault", desc := "(I)LStiltTown$Fault;" } : Jvm.MethodName)) ∈ lw_all := lw_g (lw_at lw_m3 38 rfl) rfl
theorem q677 : (Jvm.Cond.privateMethod ({ cls := "StiltTown$Reader", name := "fault", desc := "(I)LStiltTown$Fault;" } : Jvm.MethodName)) ∈ lw_tbl := lw_at lw_m3 39 rfl
theorem q678 : (Jvm.Cond.instanceMethod ({ cls := "StiltTown$Reader", name := "fault", desc := "(I)LStiltTown$Fault;" } : Jvm.MethodName)) ∈ lw_all := lw_g (lw_at lw_m3 40 rfl) rfl
theorem q679 : (Jvm.Cond.code ({ cls := "StiltTown$Reader", name := "fault", desc := "(I)LStiltTown$Fault;" } : Jvm.MethodName) prog_10_method_4_code (2 : Nat) (Option.some (Jvm.ClassFile.FieldType.object "StiltTown$Fault"))) ∈ lw_all := lw_g (lw_at lw_m3 41 rfl) rfl
theorem q680 : (Jvm.Cond.classLink "StiltTown$Reader" (33 : Nat) "StiltTown$Fault") ∈ lw_all := lw_g (lw_at lw_m3 42 rfl) rfl
theorem q719 : (Jvm.Cond.methodLink "StiltTown$Reader" (38 : Nat) ({ cls := "StiltTown$Fault", name := "<init>", desc := "(II)V" } : Jvm.MethodName)) ∈ lw_all := lw_g (lw_at lw_m3 81 rfl) rfl
theorem q752 : (Jvm.Cond.methodLink "StiltTown$Reader" (55 : Nat) ({ cls := "StiltTown$Reader", name := "go", desc := "()I" } : Jvm.MethodName)) ∈ lw_all := lw_g (lw_at lw_m3 114 rfl) rfl
theorem q753 : (Jvm.Cond.privateMethod ({ cls := "StiltTown$Reader", name := "go", desc := "()I" } : Jvm.MethodName)) ∈ lw_tbl := lw_at lw_m3 115 rfl
theorem q754 : (Jvm.Cond.instanceMethod ({ cls := "StiltTown$Reader", name := "go", desc := "()I" } : Jvm.MethodName)) ∈ lw_all := lw_g (lw_at lw_m3 116 rfl) rfl
theorem q755 : (Jvm.Cond.code ({ cls := "StiltTown$Reader", name := "go", desc := "()I" } : Jvm.MethodName) prog_10_method_6_code (1 : Nat) (Option.some Jvm.ClassFile.FieldType.int)) ∈ lw_all := lw_g (lw_at lw_m3 117 rfl) rfl
theorem q756 : (Jvm.Cond.methodLink "StiltTown$Reader" (108 : Nat) ({ cls := "StiltTown$Reader", name := "tellName", desc := "(I)V" } : Jvm.MethodName)) ∈ lw_all := lw_g (lw_at lw_m3 118 rfl) rfl
theorem q757 : (Jvm.Cond.privateMethod ({ cls := "StiltTown$Reader", name := "tellName", desc := "(I)V" } : Jvm.MethodName)) ∈ lw_tbl := lw_at lw_m3 119 rfl
theorem q758 : (Jvm.Cond.instanceMethod ({ cls := "StiltTown$Reader", name := "tellName", desc := "(I)V" } : Jvm.MethodName)) ∈ lw_all := lw_g (lw_at lw_m3 120 rfl) rfl
theorem q759 : (Jvm.Cond.code ({ cls := "StiltTown$Reader", name := "tellName", desc := "(I)V" } : Jvm.MethodName) prog_10_method_12_code (3 : Nat) (Option.none : Option Jvm.ClassFile.FieldType)) ∈ lw_all := lw_g (lw_at lw_m3 121 rfl) rfl
theorem q760 : (Jvm.Cond.methodLink "StiltTown$Reader" (59 : Nat) ({ cls := "StiltTown$Reader", name := "must", desc := "(I)I" } : Jvm.MethodName)) ∈ lw_all := lw_g (lw_at lw_m3 122 rfl) rfl
theorem q761 : (Jvm.Cond.privateMethod ({ cls := "StiltTown$Reader", name := "must", desc := "(I)I" } : Jvm.MethodName)) ∈ lw_tbl := lw_at lw_m3 123 rfl
theorem q762 : (Jvm.Cond.instanceMethod ({ cls := "StiltTown$Reader", name := "must", desc := "(I)I" } : Jvm.MethodName)) ∈ lw_all := lw_g (lw_at lw_m3 124 rfl) rfl
theorem q763 : (Jvm.Cond.code ({ cls := "StiltTown$Reader", name := "must", desc := "(I)I" } : Jvm.MethodName) prog_10_method_7_code (2 : Nat) (Option.some Jvm.ClassFile.FieldType.int)) ∈ lw_all := lw_g (lw_at lw_m3 125 rfl) rfl
theorem q764 : (Jvm.Cond.methodLink "StiltTown$Reader" (89 : Nat) ({ cls := "StiltTown$Reader", name := "find", desc := "(J)I" } : Jvm.MethodName)) ∈ lw_all := lw_g (lw_at lw_m3 126 rfl) rfl
theorem q765 : (Jvm.Cond.privateMethod ({ cls := "StiltTown$Reader", name := "find", desc := "(J)I" } : Jvm.MethodName)) ∈ lw_tbl := lw_at lw_m3 127 rfl
theorem q766 : (Jvm.Cond.instanceMethod ({ cls := "StiltTown$Reader", name := "find", desc := "(J)I" } : Jvm.MethodName)) ∈ lw_all := lw_g (lw_at lw_m3 128 rfl) rfl
theorem q767 : (Jvm.Cond.code ({ cls := "StiltTown$Reader", name := "find", desc := "(J)I" } : Jvm.MethodName) prog_10_method_11_code (4 : Nat) (Option.some Jvm.ClassFile.FieldType.int)) ∈ lw_all := lw_g (lw_at lw_m3 129 rfl) rfl
theorem q768 : (Jvm.Cond.methodLink "StiltTown$Reader" (70 : Nat) ({ cls := "StiltTown$Reader", name := "wrong", desc := "(II)V" } : Jvm.MethodName)) ∈ lw_all := lw_g (lw_at lw_m3 130 rfl) rfl
theorem q769 : (Jvm.Cond.privateMethod ({ cls := "StiltTown$Reader", name := "wrong", desc := "(II)V" } : Jvm.MethodName)) ∈ lw_tbl := lw_at lw_m3 131 rfl
theorem q770 : (Jvm.Cond.instanceMethod ({ cls := "StiltTown$Reader", name := "wrong", desc := "(II)V" } : Jvm.MethodName)) ∈ lw_all := lw_g (lw_at lw_m3 132 rfl) rfl
theorem q771 : (Jvm.Cond.code ({ cls := "StiltTown$Reader", name := "wrong", desc := "(II)V" } : Jvm.MethodName) prog_10_method_5_code (4 : Nat) (Option.none : Option Jvm.ClassFile.FieldType)) ∈ lw_all := lw_g (lw_at lw_m3 133 rfl) rfl
theorem q772 : (Jvm.Cond.methodLink "StiltTown$Reader" (112 : Nat) ({ cls := "StiltTown$Reader", name := "bounded", desc := "(II)I" } : Jvm.MethodName)) ∈ lw_all := lw_g (lw_at lw_m3 134 rfl) rfl
theorem q773 : (Jvm.Cond.privateMethod ({ cls := "StiltTown$Reader", name := "bounded", desc := "(II)I" } : Jvm.MethodName)) ∈ lw_tbl := lw_at lw_m3 135 rfl
theorem q774 : (Jvm.Cond.instanceMethod ({ cls := "StiltTown$Reader", name := "bounded", desc := "(II)I" } : Jvm.MethodName)) ∈ lw_all := lw_g (lw_at lw_m3 136 rfl) rfl
theorem q775 : (Jvm.Cond.code ({ cls := "StiltTown$Reader", name := "bounded", desc := "(II)I" } : Jvm.MethodName) prog_10_method_8_code (5 : Nat) (Option.some Jvm.ClassFile.FieldType.int)) ∈ lw_all := lw_g (lw_at lw_m3 137 rfl) rfl
theorem q776 : (Jvm.Cond.methodLinkNest "StiltTown$Reader" (66 : Nat) ({ cls := "StiltTown", name := "within", desc := "(III)Z" } : Jvm.MethodName) "StiltTown") ∈ lw_tbl := lw_at lw_m3 138 rfl
theorem q777 : (Jvm.Cond.classLink "StiltTown$Reader" (116 : Nat) "StiltTown$House") ∈ lw_all := lw_g (lw_at lw_m3 139 rfl) rfl
theorem q779 : (Jvm.Cond.methodLinkNest "StiltTown$Reader" (118 : Nat) ({ cls := "StiltTown$House", name := "<init>", desc := "(III)V" } : Jvm.MethodName) "StiltTown") ∈ lw_tbl := lw_at lw_m3 141 rfl
theorem q796 : (Jvm.Cond.methodLink "StiltTown$Reader" (121 : Nat) ({ cls := "java/util/ArrayList", name := "add", desc := "(Ljava/lang/Object;)Z" } : Jvm.MethodName)) ∈ lw_all := lw_g (lw_at lw_m3 158 rfl) rfl
theorem q837 : (Jvm.Cond.selects "StiltTown$Reader" ({ cls := "java/lang/Object", name := "getClass", desc := "()Ljava/lang/Class;" } : Jvm.MethodName) ({ cls := "java/lang/Object", name := "getClass", desc := "()Ljava/lang/Class;" } : Jvm.MethodName)) ∈ lw_all := lw_g (lw_at lw_m3 199 rfl) rfl
theorem q864 : (Jvm.Cond.methodLink "StiltTown$Reader" (134 : Nat) ({ cls := "StiltTown$Reader", name := "known", desc := "(I)I" } : Jvm.MethodName)) ∈ lw_all := lw_g (lw_at lw_m3 226 rfl) rfl
theorem q865 : (Jvm.Cond.privateMethod ({ cls := "StiltTown$Reader", name := "known", desc := "(I)I" } : Jvm.MethodName)) ∈ lw_tbl := lw_at lw_m3 227 rfl
theorem q866 : (Jvm.Cond.instanceMethod ({ cls := "StiltTown$Reader", name := "known", desc := "(I)I" } : Jvm.MethodName)) ∈ lw_all := lw_g (lw_at lw_m3 228 rfl) rfl
theorem q867 : (Jvm.Cond.code ({ cls := "StiltTown$Reader", name := "known", desc := "(I)I" } : Jvm.MethodName) prog_10_method_13_code (4 : Nat) (Option.some Jvm.ClassFile.FieldType.int)) ∈ lw_all := lw_g (lw_at lw_m3 229 rfl) rfl
theorem q868 : (Jvm.Cond.methodLinkNest "StiltTown$Reader" (140 : Nat) ({ cls := "StiltTown", name := "gives", desc := "([III)V" } : Jvm.MethodName) "StiltTown") ∈ lw_tbl := lw_at lw_m3 230 rfl
theorem q871 : (Jvm.Cond.methodLink "StiltTown$Reader" (147 : Nat) ({ cls := "StiltTown$Reader", name := "tellStair", desc := "()V" } : Jvm.MethodName)) ∈ lw_all := lw_g (lw_at lw_m3 233 rfl) rfl
theorem q872 : (Jvm.Cond.privateMethod ({ cls := "StiltTown$Reader", name := "tellStair", desc := "()V" } : Jvm.MethodName)) ∈ lw_tbl := lw_at lw_m3 234 rfl
theorem q873 : (Jvm.Cond.instanceMethod ({ cls := "StiltTown$Reader", name := "tellStair", desc := "()V" } : Jvm.MethodName)) ∈ lw_all := lw_g (lw_at lw_m3 235 rfl) rfl
theorem q874 : (Jvm.Cond.code ({ cls := "StiltTown$Reader", name := "tellStair", desc := "()V" } : Jvm.MethodName) prog_10_method_18_code (4 : Nat) (Option.none : Option Jvm.ClassFile.FieldType)) ∈ lw_all := lw_g (lw_at lw_m3 236 rfl) rfl
theorem q875 : (Jvm.Cond.classLink "StiltTown$Reader" (203 : Nat) "StiltTown$Stair") ∈ lw_all := lw_g (lw_at lw_m3 237 rfl) rfl
theorem q877 : (Jvm.Cond.methodLinkNest "StiltTown$Reader" (205 : Nat) ({ cls := "StiltTown$Stair", name := "<init>", desc := "(III)V" } : Jvm.MethodName) "StiltTown") ∈ lw_tbl := lw_at lw_m3 239 rfl
theorem q894 : (Jvm.Cond.classLink "StiltTown$Reader" (160 : Nat) "StiltTown$Wood") ∈ lw_all := lw_g (lw_at lw_m4 16 rfl) rfl
theorem q896 : (Jvm.Cond.methodLinkNest "StiltTown$Reader" (162 : Nat) ({ cls := "StiltTown$Wood", name := "<init>", desc := "(II)V" } : Jvm.MethodName) "StiltTown") ∈ lw_tbl := lw_at lw_m4 18 rfl
theorem q909 : (Jvm.Cond.methodLink "StiltTown$Reader" (169 : Nat) ({ cls := "StiltTown$Reader", name := "tellLaw", desc := "()V" } : Jvm.MethodName)) ∈ lw_all := lw_g (lw_at lw_m4 31 rfl) rfl
theorem q910 : (Jvm.Cond.privateMethod ({ cls := "StiltTown$Reader", name := "tellLaw", desc := "()V" } : Jvm.MethodName)) ∈ lw_tbl := lw_at lw_m4 32 rfl
theorem q911 : (Jvm.Cond.instanceMethod ({ cls := "StiltTown$Reader", name := "tellLaw", desc := "()V" } : Jvm.MethodName)) ∈ lw_all := lw_g (lw_at lw_m4 33 rfl) rfl
theorem q912 : (Jvm.Cond.code ({ cls := "StiltTown$Reader", name := "tellLaw", desc := "()V" } : Jvm.MethodName) prog_10_method_15_code (1 : Nat) (Option.none : Option Jvm.ClassFile.FieldType)) ∈ lw_all := lw_g (lw_at lw_m4 34 rfl) rfl
theorem q913 : (Jvm.Cond.methodLink "StiltTown$Reader" (172 : Nat) ({ cls := "StiltTown$Reader", name := "term", desc := "()LStiltTown$Term;" } : Jvm.MethodName)) ∈ lw_all := lw_g (lw_at lw_m4 35 rfl) rfl
theorem q914 : (Jvm.Cond.privateMethod ({ cls := "StiltTown$Reader", name := "term", desc := "()LStiltTown$Term;" } : Jvm.MethodName)) ∈ lw_tbl := lw_at lw_m4 36 rfl
theorem q915 : (Jvm.Cond.instanceMethod ({ cls := "StiltTown$Reader", name := "term", desc := "()LStiltTown$Term;" } : Jvm.MethodName)) ∈ lw_all := lw_g (lw_at lw_m4 37 rfl) rfl
theorem q916 : (Jvm.Cond.code ({ cls := "StiltTown$Reader", name := "term", desc := "()LStiltTown$Term;" } : Jvm.MethodName) prog_10_method_16_code (1 : Nat) (Option.some (Jvm.ClassFile.FieldType.object "StiltTown$Term"))) ∈ lw_all := lw_g (lw_at lw_m4 38 rfl) rfl
theorem q917 : (Jvm.Cond.methodLink "StiltTown$Reader" (196 : Nat) ({ cls := "StiltTown$Reader", name := "sum", desc := "()LStiltTown$Term;" } : Jvm.MethodName)) ∈ lw_all := lw_g (lw_at lw_m4 39 rfl) rfl
theorem q918 : (Jvm.Cond.privateMethod ({ cls := "StiltTown$Reader", name := "sum", desc := "()LStiltTown$Term;" } : Jvm.MethodName)) ∈ lw_tbl := lw_at lw_m4 40 rfl
theorem q919 : (Jvm.Cond.instanceMethod ({ cls := "StiltTown$Reader", name := "sum", desc := "()LStiltTown$Term;" } : Jvm.MethodName)) ∈ lw_all := lw_g (lw_at lw_m4 41 rfl) rfl
theorem q920 : (Jvm.Cond.code ({ cls := "StiltTown$Reader", name := "sum", desc := "()LStiltTown$Term;" } : Jvm.MethodName) prog_10_method_22_code (3 : Nat) (Option.some (Jvm.ClassFile.FieldType.object "StiltTown$Term"))) ∈ lw_all := lw_g (lw_at lw_m4 42 rfl) rfl
theorem q921 : (Jvm.Cond.methodLink "StiltTown$Reader" (228 : Nat) ({ cls := "StiltTown$Reader", name := "product", desc := "()LStiltTown$Term;" } : Jvm.MethodName)) ∈ lw_all := lw_g (lw_at lw_m4 43 rfl) rfl
theorem q922 : (Jvm.Cond.privateMethod ({ cls := "StiltTown$Reader", name := "product", desc := "()LStiltTown$Term;" } : Jvm.MethodName)) ∈ lw_tbl := lw_at lw_m4 44 rfl
theorem q923 : (Jvm.Cond.instanceMethod ({ cls := "StiltTown$Reader", name := "product", desc := "()LStiltTown$Term;" } : Jvm.MethodName)) ∈ lw_all := lw_g (lw_at lw_m4 45 rfl) rfl
theorem q924 : (Jvm.Cond.code ({ cls := "StiltTown$Reader", name := "product", desc := "()LStiltTown$Term;" } : Jvm.MethodName) prog_10_method_23_code (3 : Nat) (Option.some (Jvm.ClassFile.FieldType.object "StiltTown$Term"))) ∈ lw_all := lw_g (lw_at lw_m4 46 rfl) rfl
theorem q925 : (Jvm.Cond.methodLink "StiltTown$Reader" (234 : Nat) ({ cls := "StiltTown$Reader", name := "unit", desc := "()LStiltTown$Term;" } : Jvm.MethodName)) ∈ lw_all := lw_g (lw_at lw_m4 47 rfl) rfl
theorem q926 : (Jvm.Cond.privateMethod ({ cls := "StiltTown$Reader", name := "unit", desc := "()LStiltTown$Term;" } : Jvm.MethodName)) ∈ lw_tbl := lw_at lw_m4 48 rfl
theorem q927 : (Jvm.Cond.instanceMethod ({ cls := "StiltTown$Reader", name := "unit", desc := "()LStiltTown$Term;" } : Jvm.MethodName)) ∈ lw_all := lw_g (lw_at lw_m4 49 rfl) rfl
theorem q928 : (Jvm.Cond.code ({ cls := "StiltTown$Reader", name := "unit", desc := "()LStiltTown$Term;" } : Jvm.MethodName) prog_10_method_24_code (2 : Nat) (Option.some (Jvm.ClassFile.FieldType.object "StiltTown$Term"))) ∈ lw_all := lw_g (lw_at lw_m4 50 rfl) rfl
theorem q929 : (Jvm.Cond.classLink "StiltTown$Reader" (237 : Nat) "StiltTown$Whole") ∈ lw_all := lw_g (lw_at lw_m4 51 rfl) rfl
theorem q930 : (Jvm.Cond.methodLinkNest "StiltTown$Reader" (239 : Nat) ({ cls := "StiltTown$Whole", name := "<init>", desc := "(I)V" } : Jvm.MethodName) "StiltTown") ∈ lw_tbl := lw_at lw_m4 52 rfl
theorem q931 : (Jvm.Cond.classLink "StiltTown$Reader" (241 : Nat) "StiltTown$Seen") ∈ lw_all := lw_g (lw_at lw_m4 53 rfl) rfl
theorem q932 : (Jvm.Cond.methodLinkNest "StiltTown$Reader" (243 : Nat) ({ cls := "StiltTown$Seen", name := "<init>", desc := "(I)V" } : Jvm.MethodName) "StiltTown") ∈ lw_tbl := lw_at lw_m4 54 rfl
theorem q933 : (Jvm.Cond.classLink "StiltTown$Reader" (231 : Nat) "StiltTown$Pair") ∈ lw_all := lw_g (lw_at lw_m4 55 rfl) rfl
theorem q935 : (Jvm.Cond.methodLinkNest "StiltTown$Reader" (233 : Nat) ({ cls := "StiltTown$Pair", name := "<init>", desc := "(ILStiltTown$Term;LStiltTown$Term;)V" } : Jvm.MethodName) "StiltTown") ∈ lw_tbl := lw_at lw_m4 57 rfl
theorem q949 : (Jvm.Cond.methodLink "StiltTown$Reader" (189 : Nat) ({ cls := "StiltTown$Reader", name := "tellRule", desc := "(Ljava/util/ArrayList;)V" } : Jvm.MethodName)) ∈ lw_all := lw_g (lw_at lw_m4 71 rfl) rfl
theorem q950 : (Jvm.Cond.privateMethod ({ cls := "StiltTown$Reader", name := "tellRule", desc := "(Ljava/util/ArrayList;)V" } : Jvm.MethodName)) ∈ lw_tbl := lw_at lw_m4 72 rfl
theorem q951 : (Jvm.Cond.instanceMethod ({ cls := "StiltTown$Reader", name := "tellRule", desc := "(Ljava/util/ArrayList;)V" } : Jvm.MethodName)) ∈ lw_all := lw_g (lw_at lw_m4 73 rfl) rfl
theorem q952 : (Jvm.Cond.code ({ cls := "StiltTown$Reader", name := "tellRule", desc := "(Ljava/util/ArrayList;)V" } : Jvm.MethodName) prog_10_method_17_code (2 : Nat) (Option.none : Option Jvm.ClassFile.FieldType)) ∈ lw_all := lw_g (lw_at lw_m4 74 rfl) rfl
theorem q953 : (Jvm.Cond.methodLink "StiltTown$Reader" (199 : Nat) ({ cls := "StiltTown$Reader", name := "condition", desc := "()LStiltTown$Test;" } : Jvm.MethodName)) ∈ lw_all := lw_g (lw_at lw_m4 75 rfl) rfl
theorem q954 : (Jvm.Cond.privateMethod ({ cls := "StiltTown$Reader", name := "condition", desc := "()LStiltTown$Test;" } : Jvm.MethodName)) ∈ lw_tbl := lw_at lw_m4 76 rfl
theorem q955 : (Jvm.Cond.instanceMethod ({ cls := "StiltTown$Reader", name := "condition", desc := "()LStiltTown$Test;" } : Jvm.MethodName)) ∈ lw_all := lw_g (lw_at lw_m4 77 rfl) rfl
theorem q956 : (Jvm.Cond.code ({ cls := "StiltTown$Reader", name := "condition", desc := "()LStiltTown$Test;" } : Jvm.MethodName) prog_10_method_19_code (2 : Nat) (Option.some (Jvm.ClassFile.FieldType.object "StiltTown$Test"))) ∈ lw_all := lw_g (lw_at lw_m4 78 rfl) rfl
theorem q957 : (Jvm.Cond.classLink "StiltTown$Reader" (101 : Nat) "java/util/ArrayList") ∈ lw_all := lw_g (lw_at lw_m4 79 rfl) rfl
theorem q958 : (Jvm.Cond.methodLink "StiltTown$Reader" (206 : Nat) ({ cls := "java/util/ArrayList", name := "<init>", desc := "()V" } : Jvm.MethodName)) ∈ lw_all := lw_g (lw_at lw_m4 80 rfl) rfl
theorem q959 : (Jvm.Cond.methodLink "StiltTown$Reader" (207 : Nat) ({ cls := "StiltTown$Reader", name := "all", desc := "()LStiltTown$Test;" } : Jvm.MethodName)) ∈ lw_all := lw_g (lw_at lw_m4 81 rfl) rfl
theorem q960 : (Jvm.Cond.privateMethod ({ cls := "StiltTown$Reader", name := "all", desc := "()LStiltTown$Test;" } : Jvm.MethodName)) ∈ lw_tbl := lw_at lw_m4 82 rfl
theorem q961 : (Jvm.Cond.instanceMethod ({ cls := "StiltTown$Reader", name := "all", desc := "()LStiltTown$Test;" } : Jvm.MethodName)) ∈ lw_all := lw_g (lw_at lw_m4 83 rfl) rfl
theorem q962 : (Jvm.Cond.code ({ cls := "StiltTown$Reader", name := "all", desc := "()LStiltTown$Test;" } : Jvm.MethodName) prog_10_method_20_code (2 : Nat) (Option.some (Jvm.ClassFile.FieldType.object "StiltTown$Test"))) ∈ lw_all := lw_g (lw_at lw_m4 84 rfl) rfl
theorem q963 : (Jvm.Cond.methodLink "StiltTown$Reader" (215 : Nat) ({ cls := "StiltTown$Reader", name := "literal", desc := "()LStiltTown$Test;" } : Jvm.MethodName)) ∈ lw_all := lw_g (lw_at lw_m4 85 rfl) rfl
theorem q964 : (Jvm.Cond.privateMethod ({ cls := "StiltTown$Reader", name := "literal", desc := "()LStiltTown$Test;" } : Jvm.MethodName)) ∈ lw_tbl := lw_at lw_m4 86 rfl
theorem q965 : (Jvm.Cond.instanceMethod ({ cls := "StiltTown$Reader", name := "literal", desc := "()LStiltTown$Test;" } : Jvm.MethodName)) ∈ lw_all := lw_g (lw_at lw_m4 87 rfl) rfl
theorem q966 : (Jvm.Cond.code ({ cls := "StiltTown$Reader", name := "literal", desc := "()LStiltTown$Test;" } : Jvm.MethodName) prog_10_method_21_code (5 : Nat) (Option.some (Jvm.ClassFile.FieldType.object "StiltTown$Test"))) ∈ lw_all := lw_g (lw_at lw_m4 88 rfl) rfl
theorem q967 : (Jvm.Cond.classLink "StiltTown$Reader" (218 : Nat) "StiltTown$Beside") ∈ lw_all := lw_g (lw_at lw_m4 89 rfl) rfl
theorem q969 : (Jvm.Cond.methodLinkNest "StiltTown$Reader" (220 : Nat) ({ cls := "StiltTown$Beside", name := "<init>", desc := "(ILStiltTown$Term;LStiltTown$Term;)V" } : Jvm.MethodName) "StiltTown") ∈ lw_tbl := lw_at lw_m4 91 rfl
theorem q983 : (Jvm.Cond.classLink "StiltTown$Reader" (223 : Nat) "StiltTown$Not") ∈ lw_all := lw_g (lw_at lw_m4 105 rfl) rfl
theorem q985 : (Jvm.Cond.methodLinkNest "StiltTown$Reader" (225 : Nat) ({ cls := "StiltTown$Not", name := "<init>", desc := "(LStiltTown$Test;)V" } : Jvm.MethodName) "StiltTown") ∈ lw_tbl := lw_at lw_m4 107 rfl
theorem q993 : (Jvm.Cond.classLink "StiltTown$Reader" (210 : Nat) "StiltTown$Many") ∈ lw_all := lw_g (lw_at lw_m4 115 rfl) rfl
theorem q995 : (Jvm.Cond.methodLinkNest "StiltTown$Reader" (212 : Nat) ({ cls := "StiltTown$Many", name := "<init>", desc := "(ZLjava/util/ArrayList;)V" } : Jvm.MethodName) "StiltTown") ∈ lw_tbl := lw_at lw_m4 117 rfl
theorem q2290 : (Jvm.Cond.castable "StiltTown$Reader" "java/lang/Object") ∈ lw_tbl := lw_at lw_m9 212 rfl
theorem in_X2 : ∀ w ∈ wsX20, w ∈ lw_all := lw_in wsX20 [251, 253, 255, 257, 259, 261, 263, 265, 267] (by decide +kernel) (by decide +kernel)

theorem q162 : (Jvm.Cond.initialized "StiltTown$Town") ∈ lw_all := lw_g (lw_at lw_m1 4 rfl) rfl
theorem q272 : (Jvm.Cond.instantiable "StiltTown$Town" (16 : Nat)) ∈ lw_all := lw_g (lw_at lw_m1 114 rfl) rfl
theorem q274 : (Jvm.Cond.instanceMethod ({ cls := "StiltTown$Town", name := "<init>", desc := "()V" } : Jvm.MethodName)) ∈ lw_all := lw_g (lw_at lw_m1 116 rfl) rfl
theorem q275 : (Jvm.Cond.code ({ cls := "StiltTown$Town", name := "<init>", desc := "()V" } : Jvm.MethodName) prog_17_method_1_code (2 : Nat) (Option.none : Option Jvm.ClassFile.FieldType)) ∈ lw_all := lw_g (lw_at lw_m1 117 rfl) rfl
theorem q276 : (Jvm.Cond.methodLink "StiltTown$Town" (3 : Nat) ({ cls := "java/lang/Object", name := "<init>", desc := "()V" } : Jvm.MethodName)) ∈ lw_all := lw_g (lw_at lw_m1 118 rfl) rfl
theorem q277 : (Jvm.Cond.classLink "StiltTown$Town" (9 : Nat) "java/util/ArrayList") ∈ lw_all := lw_g (lw_at lw_m1 119 rfl) rfl
theorem q279 : (Jvm.Cond.methodLink "StiltTown$Town" (11 : Nat) ({ cls := "java/util/ArrayList", name := "<init>", desc := "()V" } : Jvm.MethodName)) ∈ lw_all := lw_g (lw_at lw_m1 121 rfl) rfl
theorem q303 : (Jvm.Cond.classLink "StiltTown$Town" (48 : Nat) "StiltTown$Whole") ∈ lw_all := lw_g (lw_at lw_m1 145 rfl) rfl
theorem q305 : (Jvm.Cond.methodLinkNest "StiltTown$Town" (50 : Nat) ({ cls := "StiltTown$Whole", name := "<init>", desc := "(I)V" } : Jvm.MethodName) "StiltTown") ∈ lw_tbl := lw_at lw_m1 147 rfl
theorem q317 : (Jvm.Cond.classLink "StiltTown$Town" (57 : Nat) "StiltTown$Seen") ∈ lw_all := lw_g (lw_at lw_m1 159 rfl) rfl
theorem q319 : (Jvm.Cond.methodLinkNest "StiltTown$Town" (59 : Nat) ({ cls := "StiltTown$Seen", name := "<init>", desc := "(I)V" } : Jvm.MethodName) "StiltTown") ∈ lw_tbl := lw_at lw_m1 161 rfl
theorem q327 : (Jvm.Cond.fieldLink "StiltTown$Town" (12 : Nat) "StiltTown$Town" "houses" "Ljava/util/ArrayList;") ∈ lw_all := lw_g (lw_at lw_m1 169 rfl) rfl
theorem q330 : (Jvm.Cond.fieldLink "StiltTown$Town" (18 : Nat) "StiltTown$Town" "stairs" "Ljava/util/ArrayList;") ∈ lw_all := lw_g (lw_at lw_m1 172 rfl) rfl
theorem q333 : (Jvm.Cond.fieldLink "StiltTown$Town" (21 : Nat) "StiltTown$Town" "woods" "Ljava/util/ArrayList;") ∈ lw_all := lw_g (lw_at lw_m1 175 rfl) rfl
theorem q336 : (Jvm.Cond.fieldLink "StiltTown$Town" (24 : Nat) "StiltTown$Town" "falls" "Ljava/util/ArrayList;") ∈ lw_all := lw_g (lw_at lw_m1 178 rfl) rfl
theorem q339 : (Jvm.Cond.fieldLink "StiltTown$Town" (27 : Nat) "StiltTown$Town" "bad" "Ljava/util/ArrayList;") ∈ lw_all := lw_g (lw_at lw_m1 181 rfl) rfl
theorem q342 : (Jvm.Cond.fieldLink "StiltTown$Town" (30 : Nat) "StiltTown$Town" "rank" "[I") ∈ lw_all := lw_g (lw_at lw_m1 184 rfl) rfl
theorem q347 : (Jvm.Cond.fieldLink "StiltTown$Town" (34 : Nat) "StiltTown$Town" "officeOf" "[I") ∈ lw_all := lw_g (lw_at lw_m1 189 rfl) rfl
theorem q351 : (Jvm.Cond.fieldLink "StiltTown$Town" (37 : Nat) "StiltTown$Town" "isQuay" "[Z") ∈ lw_all := lw_g (lw_at lw_m1 193 rfl) rfl
theorem q356 : (Jvm.Cond.fieldLink "StiltTown$Town" (41 : Nat) "StiltTown$Town" "crews" "I") ∈ lw_all := lw_g (lw_at lw_m1 198 rfl) rfl
theorem q359 : (Jvm.Cond.fieldLink "StiltTown$Town" (45 : Nat) "StiltTown$Town" "jack" "I") ∈ lw_all := lw_g (lw_at lw_m1 201 rfl) rfl
theorem q362 : (Jvm.Cond.fieldLink "StiltTown$Town" (53 : Nat) "StiltTown$Town" "tide" "LStiltTown$Term;") ∈ lw_all := lw_g (lw_at lw_m1 204 rfl) rfl
theorem q365 : (Jvm.Cond.fieldLink "StiltTown$Town" (60 : Nat) "StiltTown$Town" "due" "LStiltTown$Term;") ∈ lw_all := lw_g (lw_at lw_m1 207 rfl) rfl
theorem q368 : (Jvm.Cond.fieldLink "StiltTown$Town" (63 : Nat) "StiltTown$Town" "sway" "LStiltTown$Term;") ∈ lw_all := lw_g (lw_at lw_m1 210 rfl) rfl
theorem q371 : (Jvm.Cond.laysFinal "StiltTown$Town" "StiltTown$Town" "houses" "Ljava/util/ArrayList;") ∈ lw_all := lw_g (lw_at lw_m1 213 rfl) rfl
theorem q372 : (Jvm.Cond.soleField "StiltTown$Town" "houses") ∈ lw_all := lw_g (lw_at lw_m1 214 rfl) rfl
theorem q373 : (Jvm.Cond.laysFinal "StiltTown$Town" "StiltTown$Town" "stairs" "Ljava/util/ArrayList;") ∈ lw_all := lw_g (lw_at lw_m1 215 rfl) rfl
theorem q374 : (Jvm.Cond.soleField "StiltTown$Town" "stairs") ∈ lw_all := lw_g (lw_at lw_m1 216 rfl) rfl
theorem q375 : (Jvm.Cond.laysFinal "StiltTown$Town" "StiltTown$Town" "woods" "Ljava/util/ArrayList;") ∈ lw_all := lw_g (lw_at lw_m1 217 rfl) rfl
theorem q376 : (Jvm.Cond.soleField "StiltTown$Town" "woods") ∈ lw_all := lw_g (lw_at lw_m1 218 rfl) rfl
theorem q377 : (Jvm.Cond.laysFinal "StiltTown$Town" "StiltTown$Town" "falls" "Ljava/util/ArrayList;") ∈ lw_all := lw_g (lw_at lw_m1 219 rfl) rfl
theorem q378 : (Jvm.Cond.soleField "StiltTown$Town" "falls") ∈ lw_all := lw_g (lw_at lw_m1 220 rfl) rfl
theorem q379 : (Jvm.Cond.laysFinal "StiltTown$Town" "StiltTown$Town" "bad" "Ljava/util/ArrayList;") ∈ lw_all := lw_g (lw_at lw_m1 221 rfl) rfl
theorem q380 : (Jvm.Cond.soleField "StiltTown$Town" "bad") ∈ lw_all := lw_g (lw_at lw_m1 222 rfl) rfl
theorem q381 : (Jvm.Cond.laysFinal "StiltTown$Town" "StiltTown$Town" "rank" "[I") ∈ lw_all := lw_g (lw_at lw_m1 223 rfl) rfl
theorem q382 : (Jvm.Cond.soleField "StiltTown$Town" "rank") ∈ lw_all := lw_g (lw_at lw_m1 224 rfl) rfl
theorem q383 : (Jvm.Cond.lays "StiltTown$Town" "StiltTown$Town" "offices" "I") ∈ lw_all := lw_g (lw_at lw_m1 225 rfl) rfl
theorem q384 : (Jvm.Cond.soleField "StiltTown$Town" "offices") ∈ lw_all := lw_g (lw_at lw_m1 226 rfl) rfl
theorem q385 : (Jvm.Cond.laysFinal "StiltTown$Town" "StiltTown$Town" "officeOf" "[I") ∈ lw_all := lw_g (lw_at lw_m1 227 rfl) rfl
theorem q386 : (Jvm.Cond.soleField "StiltTown$Town" "officeOf") ∈ lw_all := lw_g (lw_at lw_m1 228 rfl) rfl
theorem q387 : (Jvm.Cond.lays "StiltTown$Town" "StiltTown$Town" "ins" "I") ∈ lw_all := lw_g (lw_at lw_m1 229 rfl) rfl
theorem q388 : (Jvm.Cond.soleField "StiltTown$Town" "ins") ∈ lw_all := lw_g (lw_at lw_m1 230 rfl) rfl
theorem q389 : (Jvm.Cond.laysFinal "StiltTown$Town" "StiltTown$Town" "isQuay" "[Z") ∈ lw_all := lw_g (lw_at lw_m1 231 rfl) rfl
theorem q390 : (Jvm.Cond.soleField "StiltTown$Town" "isQuay") ∈ lw_all := lw_g (lw_at lw_m1 232 rfl) rfl
theorem q391 : (Jvm.Cond.lays "StiltTown$Town" "StiltTown$Town" "quays" "I") ∈ lw_all := lw_g (lw_at lw_m1 233 rfl) rfl
theorem q392 : (Jvm.Cond.soleField "StiltTown$Town" "quays") ∈ lw_all := lw_g (lw_at lw_m1 234 rfl) rfl
theorem q393 : (Jvm.Cond.lays "StiltTown$Town" "StiltTown$Town" "crews" "I") ∈ lw_all := lw_g (lw_at lw_m1 235 rfl) rfl
theorem q394 : (Jvm.Cond.soleField "StiltTown$Town" "crews") ∈ lw_all := lw_g (lw_at lw_m1 236 rfl) rfl
theorem q395 : (Jvm.Cond.lays "StiltTown$Town" "StiltTown$Town" "jack" "I") ∈ lw_all := lw_g (lw_at lw_m1 237 rfl) rfl
theorem q396 : (Jvm.Cond.soleField "StiltTown$Town" "jack") ∈ lw_all := lw_g (lw_at lw_m1 238 rfl) rfl
theorem q397 : (Jvm.Cond.lays "StiltTown$Town" "StiltTown$Town" "tide" "LStiltTown$Term;") ∈ lw_all := lw_g (lw_at lw_m1 239 rfl) rfl
theorem q398 : (Jvm.Cond.soleField "StiltTown$Town" "tide") ∈ lw_all := lw_g (lw_at lw_m2 0 rfl) rfl
theorem q399 : (Jvm.Cond.lays "StiltTown$Town" "StiltTown$Town" "due" "LStiltTown$Term;") ∈ lw_all := lw_g (lw_at lw_m2 1 rfl) rfl
theorem q400 : (Jvm.Cond.soleField "StiltTown$Town" "due") ∈ lw_all := lw_g (lw_at lw_m2 2 rfl) rfl
theorem q401 : (Jvm.Cond.lays "StiltTown$Town" "StiltTown$Town" "sway" "LStiltTown$Term;") ∈ lw_all := lw_g (lw_at lw_m2 3 rfl) rfl
theorem q402 : (Jvm.Cond.soleField "StiltTown$Town" "sway") ∈ lw_all := lw_g (lw_at lw_m2 4 rfl) rfl
theorem q403 : (Jvm.Cond.superclass "StiltTown$Town" "java/lang/Object") ∈ lw_all := lw_g (lw_at lw_m2 5 rfl) rfl
theorem q842 : (Jvm.Cond.selects "StiltTown$Town" ({ cls := "java/lang/Object", name := "getClass", desc := "()Ljava/lang/Class;" } : Jvm.MethodName) ({ cls := "java/lang/Object", name := "getClass", desc := "()Ljava/lang/Class;" } : Jvm.MethodName)) ∈ lw_all := lw_g (lw_at lw_m3 204 rfl) rfl
theorem q2291 : (Jvm.Cond.castable "StiltTown$Town" "java/lang/Object") ∈ lw_tbl := lw_at lw_m9 213 rfl
theorem in_X3 : ∀ w ∈ wsX30, w ∈ lw_all := lw_in wsX30 [371, 373, 375, 377, 379, 381, 383, 385, 387, 389, 391, 393, 395, 397, 399, 401] (by decide +kernel) (by decide +kernel)

theorem q163 : (Jvm.Cond.initialized "java/util/AbstractCollection") ∈ lw_all := lw_g (lw_at lw_m1 5 rfl) rfl
theorem q286 : (Jvm.Cond.instanceMethod ({ cls := "java/util/AbstractCollection", name := "<init>", desc := "()V" } : Jvm.MethodName)) ∈ lw_all := lw_g (lw_at lw_m1 128 rfl) rfl
theorem q287 : (Jvm.Cond.code ({ cls := "java/util/AbstractCollection", name := "<init>", desc := "()V" } : Jvm.MethodName) prog_37_method_1_code (1 : Nat) (Option.none : Option Jvm.ClassFile.FieldType)) ∈ lw_all := lw_g (lw_at lw_m1 129 rfl) rfl
theorem q288 : (Jvm.Cond.methodLink "java/util/AbstractCollection" (1 : Nat) ({ cls := "java/lang/Object", name := "<init>", desc := "()V" } : Jvm.MethodName)) ∈ lw_all := lw_g (lw_at lw_m1 130 rfl) rfl

theorem q164 : (Jvm.Cond.initialized "java/util/AbstractList") ∈ lw_all := lw_g (lw_at lw_m1 6 rfl) rfl
theorem q283 : (Jvm.Cond.instanceMethod ({ cls := "java/util/AbstractList", name := "<init>", desc := "()V" } : Jvm.MethodName)) ∈ lw_all := lw_g (lw_at lw_m1 125 rfl) rfl
theorem q284 : (Jvm.Cond.code ({ cls := "java/util/AbstractList", name := "<init>", desc := "()V" } : Jvm.MethodName) prog_38_method_1_code (1 : Nat) (Option.none : Option Jvm.ClassFile.FieldType)) ∈ lw_all := lw_g (lw_at lw_m1 126 rfl) rfl
theorem q285 : (Jvm.Cond.methodLink "java/util/AbstractList" (1 : Nat) ({ cls := "java/util/AbstractCollection", name := "<init>", desc := "()V" } : Jvm.MethodName)) ∈ lw_all := lw_g (lw_at lw_m1 127 rfl) rfl
theorem q293 : (Jvm.Cond.fieldLink "java/util/AbstractList" (7 : Nat) "java/util/AbstractList" "modCount" "I") ∈ lw_all := lw_g (lw_at lw_m1 135 rfl) rfl
theorem q301 : (Jvm.Cond.soleField "java/util/AbstractList" "modCount") ∈ lw_all := lw_g (lw_at lw_m1 143 rfl) rfl

theorem q165 : (Jvm.Cond.initialized "java/util/ArrayList") ∈ lw_all := lw_g (lw_at lw_m1 7 rfl) rfl
theorem q278 : (Jvm.Cond.instantiable "java/util/ArrayList" (3 : Nat)) ∈ lw_all := lw_g (lw_at lw_m1 120 rfl) rfl
theorem q280 : (Jvm.Cond.instanceMethod ({ cls := "java/util/ArrayList", name := "<init>", desc := "()V" } : Jvm.MethodName)) ∈ lw_all := lw_g (lw_at lw_m1 122 rfl) rfl
theorem q281 : (Jvm.Cond.code ({ cls := "java/util/ArrayList", name := "<init>", desc := "()V" } : Jvm.MethodName) prog_39_method_2_code (1 : Nat) (Option.none : Option Jvm.ClassFile.FieldType)) ∈ lw_all := lw_g (lw_at lw_m1 123 rfl) rfl
theorem q282 : (Jvm.Cond.methodLink "java/util/ArrayList" (1 : Nat) ({ cls := "java/util/AbstractList", name := "<init>", desc := "()V" } : Jvm.MethodName)) ∈ lw_all := lw_g (lw_at lw_m1 124 rfl) rfl
theorem q289 : (Jvm.Cond.fieldLink "java/util/ArrayList" (39 : Nat) "java/util/ArrayList" "DEFAULTCAPACITY_EMPTY_ELEMENTDATA" "[Ljava/lang/Object;") ∈ lw_all := lw_g (lw_at lw_m1 131 rfl) rfl
theorem q290 : (Jvm.Cond.laysStatic "java/util/ArrayList" "DEFAULTCAPACITY_EMPTY_ELEMENTDATA" "[Ljava/lang/Object;") ∈ lw_tbl := lw_at lw_m1 132 rfl
theorem q291 : (Jvm.Cond.fieldLink "java/util/ArrayList" (9 : Nat) "java/util/ArrayList" "elementData" "[Ljava/lang/Object;") ∈ lw_all := lw_g (lw_at lw_m1 133 rfl) rfl
theorem q292 : (Jvm.Cond.fieldLink "java/util/ArrayList" (48 : Nat) "java/util/ArrayList" "size" "I") ∈ lw_all := lw_g (lw_at lw_m1 134 rfl) rfl
theorem q294 : (Jvm.Cond.fieldLink "java/util/ArrayList" (63 : Nat) "java/util/ArrayList" "modCount" "I") ∈ lw_all := lw_g (lw_at lw_m1 136 rfl) rfl
theorem q295 : (Jvm.Cond.sameField "java/util/ArrayList" "java/util/AbstractList" "modCount" "I") ∈ lw_all := lw_g (lw_at lw_m1 137 rfl) rfl
theorem q296 : (Jvm.Cond.lays "java/util/ArrayList" "java/util/ArrayList" "elementData" "[Ljava/lang/Object;") ∈ lw_all := lw_g (lw_at lw_m1 138 rfl) rfl
theorem q297 : (Jvm.Cond.soleField "java/util/ArrayList" "elementData") ∈ lw_all := lw_g (lw_at lw_m1 139 rfl) rfl
theorem q298 : (Jvm.Cond.lays "java/util/ArrayList" "java/util/ArrayList" "size" "I") ∈ lw_all := lw_g (lw_at lw_m1 140 rfl) rfl
theorem q299 : (Jvm.Cond.soleField "java/util/ArrayList" "size") ∈ lw_all := lw_g (lw_at lw_m1 141 rfl) rfl
theorem q300 : (Jvm.Cond.lays "java/util/ArrayList" "java/util/AbstractList" "modCount" "I") ∈ lw_all := lw_g (lw_at lw_m1 142 rfl) rfl
theorem q302 : (Jvm.Cond.superclass "java/util/ArrayList" "java/util/AbstractList") ∈ lw_all := lw_g (lw_at lw_m1 144 rfl) rfl
theorem q669 : (Jvm.Cond.instanceMethod ({ cls := "java/util/ArrayList", name := "size", desc := "()I" } : Jvm.MethodName)) ∈ lw_all := lw_g (lw_at lw_m3 31 rfl) rfl
theorem q670 : (Jvm.Cond.selects "java/util/ArrayList" ({ cls := "java/util/ArrayList", name := "size", desc := "()I" } : Jvm.MethodName) ({ cls := "java/util/ArrayList", name := "size", desc := "()I" } : Jvm.MethodName)) ∈ lw_all := lw_g (lw_at lw_m3 32 rfl) rfl
theorem q671 : (Jvm.Cond.code ({ cls := "java/util/ArrayList", name := "size", desc := "()I" } : Jvm.MethodName) prog_39_method_8_code (1 : Nat) (Option.some Jvm.ClassFile.FieldType.int)) ∈ lw_all := lw_g (lw_at lw_m3 33 rfl) rfl
theorem q797 : (Jvm.Cond.instanceMethod ({ cls := "java/util/ArrayList", name := "add", desc := "(Ljava/lang/Object;)Z" } : Jvm.MethodName)) ∈ lw_all := lw_g (lw_at lw_m3 159 rfl) rfl
theorem q798 : (Jvm.Cond.selects "java/util/ArrayList" ({ cls := "java/util/ArrayList", name := "add", desc := "(Ljava/lang/Object;)Z" } : Jvm.MethodName) ({ cls := "java/util/ArrayList", name := "add", desc := "(Ljava/lang/Object;)Z" } : Jvm.MethodName)) ∈ lw_all := lw_g (lw_at lw_m3 160 rfl) rfl
theorem q799 : (Jvm.Cond.code ({ cls := "java/util/ArrayList", name := "add", desc := "(Ljava/lang/Object;)Z" } : Jvm.MethodName) prog_39_method_25_code (2 : Nat) (Option.some Jvm.ClassFile.FieldType.boolean)) ∈ lw_all := lw_g (lw_at lw_m3 161 rfl) rfl
theorem q800 : (Jvm.Cond.methodLink "java/util/ArrayList" (131 : Nat) ({ cls := "java/util/ArrayList", name := "add", desc := "(Ljava/lang/Object;[Ljava/lang/Object;I)V" } : Jvm.MethodName)) ∈ lw_all := lw_g (lw_at lw_m3 162 rfl) rfl
theorem q801 : (Jvm.Cond.privateMethod ({ cls := "java/util/ArrayList", name := "add", desc := "(Ljava/lang/Object;[Ljava/lang/Object;I)V" } : Jvm.MethodName)) ∈ lw_tbl := lw_at lw_m3 163 rfl
theorem q802 : (Jvm.Cond.instanceMethod ({ cls := "java/util/ArrayList", name := "add", desc := "(Ljava/lang/Object;[Ljava/lang/Object;I)V" } : Jvm.MethodName)) ∈ lw_all := lw_g (lw_at lw_m3 164 rfl) rfl
theorem q803 : (Jvm.Cond.code ({ cls := "java/util/ArrayList", name := "add", desc := "(Ljava/lang/Object;[Ljava/lang/Object;I)V" } : Jvm.MethodName) prog_39_method_24_code (4 : Nat) (Option.none : Option Jvm.ClassFile.FieldType)) ∈ lw_all := lw_g (lw_at lw_m3 165 rfl) rfl
theorem q804 : (Jvm.Cond.methodLink "java/util/ArrayList" (129 : Nat) ({ cls := "java/util/ArrayList", name := "grow", desc := "()[Ljava/lang/Object;" } : Jvm.MethodName)) ∈ lw_all := lw_g (lw_at lw_m3 166 rfl) rfl
theorem q805 : (Jvm.Cond.privateMethod ({ cls := "java/util/ArrayList", name := "grow", desc := "()[Ljava/lang/Object;" } : Jvm.MethodName)) ∈ lw_tbl := lw_at lw_m3 167 rfl
theorem q806 : (Jvm.Cond.instanceMethod ({ cls := "java/util/ArrayList", name := "grow", desc := "()[Ljava/lang/Object;" } : Jvm.MethodName)) ∈ lw_all := lw_g (lw_at lw_m3 168 rfl) rfl
theorem q807 : (Jvm.Cond.code ({ cls := "java/util/ArrayList", name := "grow", desc := "()[Ljava/lang/Object;" } : Jvm.MethodName) prog_39_method_7_code (1 : Nat) (Option.some (Jvm.ClassFile.FieldType.array (Jvm.ClassFile.FieldType.object "java/lang/Object")))) ∈ lw_all := lw_g (lw_at lw_m3 169 rfl) rfl
theorem q808 : (Jvm.Cond.methodLink "java/util/ArrayList" (69 : Nat) ({ cls := "java/util/ArrayList", name := "grow", desc := "(I)[Ljava/lang/Object;" } : Jvm.MethodName)) ∈ lw_all := lw_g (lw_at lw_m3 170 rfl) rfl
theorem q809 : (Jvm.Cond.privateMethod ({ cls := "java/util/ArrayList", name := "grow", desc := "(I)[Ljava/lang/Object;" } : Jvm.MethodName)) ∈ lw_tbl := lw_at lw_m3 171 rfl
theorem q810 : (Jvm.Cond.instanceMethod ({ cls := "java/util/ArrayList", name := "grow", desc := "(I)[Ljava/lang/Object;" } : Jvm.MethodName)) ∈ lw_all := lw_g (lw_at lw_m3 172 rfl) rfl
theorem q811 : (Jvm.Cond.code ({ cls := "java/util/ArrayList", name := "grow", desc := "(I)[Ljava/lang/Object;" } : Jvm.MethodName) prog_39_method_6_code (4 : Nat) (Option.some (Jvm.ClassFile.FieldType.array (Jvm.ClassFile.FieldType.object "java/lang/Object")))) ∈ lw_all := lw_g (lw_at lw_m3 173 rfl) rfl
theorem q812 : (Jvm.Cond.methodLink "java/util/ArrayList" (73 : Nat) ({ cls := "jdk/internal/util/ArraysSupport", name := "newLength", desc := "(III)I" } : Jvm.MethodName)) ∈ lw_all := lw_g (lw_at lw_m3 174 rfl) rfl
theorem q822 : (Jvm.Cond.methodLink "java/util/ArrayList" (66 : Nat) ({ cls := "java/util/Arrays", name := "copyOf", desc := "([Ljava/lang/Object;I)[Ljava/lang/Object;" } : Jvm.MethodName)) ∈ lw_all := lw_g (lw_at lw_m3 184 rfl) rfl
theorem q848 : (Jvm.Cond.selects "java/util/ArrayList" ({ cls := "java/lang/Object", name := "getClass", desc := "()Ljava/lang/Class;" } : Jvm.MethodName) ({ cls := "java/lang/Object", name := "getClass", desc := "()Ljava/lang/Class;" } : Jvm.MethodName)) ∈ lw_all := lw_g (lw_at lw_m3 210 rfl) rfl
theorem q862 : (Jvm.Cond.methodLink "java/util/ArrayList" (79 : Nat) ({ cls := "java/lang/Math", name := "max", desc := "(II)I" } : Jvm.MethodName)) ∈ lw_all := lw_g (lw_at lw_m3 224 rfl) rfl
theorem q863 : (Jvm.Cond.classLink "java/util/ArrayList" (7 : Nat) "java/lang/Object") ∈ lw_all := lw_g (lw_at lw_m3 225 rfl) rfl
theorem q1008 : (Jvm.Cond.instanceMethod ({ cls := "java/util/ArrayList", name := "get", desc := "(I)Ljava/lang/Object;" } : Jvm.MethodName)) ∈ lw_all := lw_g (lw_at lw_m4 130 rfl) rfl
theorem q1009 : (Jvm.Cond.selects "java/util/ArrayList" ({ cls := "java/util/ArrayList", name := "get", desc := "(I)Ljava/lang/Object;" } : Jvm.MethodName) ({ cls := "java/util/ArrayList", name := "get", desc := "(I)Ljava/lang/Object;" } : Jvm.MethodName)) ∈ lw_all := lw_g (lw_at lw_m4 131 rfl) rfl
theorem q1010 : (Jvm.Cond.code ({ cls := "java/util/ArrayList", name := "get", desc := "(I)Ljava/lang/Object;" } : Jvm.MethodName) prog_39_method_20_code (2 : Nat) (Option.some (Jvm.ClassFile.FieldType.object "java/lang/Object"))) ∈ lw_all := lw_g (lw_at lw_m4 132 rfl) rfl
theorem q1011 : (Jvm.Cond.methodLink "java/util/ArrayList" (118 : Nat) ({ cls := "java/util/Objects", name := "checkIndex", desc := "(II)I" } : Jvm.MethodName)) ∈ lw_all := lw_g (lw_at lw_m4 133 rfl) rfl
theorem q1015 : (Jvm.Cond.methodLink "java/util/ArrayList" (123 : Nat) ({ cls := "java/util/ArrayList", name := "elementData", desc := "(I)Ljava/lang/Object;" } : Jvm.MethodName)) ∈ lw_all := lw_g (lw_at lw_m4 137 rfl) rfl
theorem q1016 : (Jvm.Cond.instanceMethod ({ cls := "java/util/ArrayList", name := "elementData", desc := "(I)Ljava/lang/Object;" } : Jvm.MethodName)) ∈ lw_all := lw_g (lw_at lw_m4 138 rfl) rfl
theorem q1017 : (Jvm.Cond.selects "java/util/ArrayList" ({ cls := "java/util/ArrayList", name := "elementData", desc := "(I)Ljava/lang/Object;" } : Jvm.MethodName) ({ cls := "java/util/ArrayList", name := "elementData", desc := "(I)Ljava/lang/Object;" } : Jvm.MethodName)) ∈ lw_all := lw_g (lw_at lw_m4 139 rfl) rfl
theorem q1018 : (Jvm.Cond.code ({ cls := "java/util/ArrayList", name := "elementData", desc := "(I)Ljava/lang/Object;" } : Jvm.MethodName) prog_39_method_18_code (2 : Nat) (Option.some (Jvm.ClassFile.FieldType.object "java/lang/Object"))) ∈ lw_all := lw_g (lw_at lw_m4 140 rfl) rfl
theorem q1280 : (Jvm.Cond.instanceMethod ({ cls := "java/util/ArrayList", name := "clear", desc := "()V" } : Jvm.MethodName)) ∈ lw_all := lw_g (lw_at lw_m5 162 rfl) rfl
theorem q1281 : (Jvm.Cond.selects "java/util/ArrayList" ({ cls := "java/util/ArrayList", name := "clear", desc := "()V" } : Jvm.MethodName) ({ cls := "java/util/ArrayList", name := "clear", desc := "()V" } : Jvm.MethodName)) ∈ lw_all := lw_g (lw_at lw_m5 163 rfl) rfl
theorem q1282 : (Jvm.Cond.code ({ cls := "java/util/ArrayList", name := "clear", desc := "()V" } : Jvm.MethodName) prog_39_method_40_code (4 : Nat) (Option.none : Option Jvm.ClassFile.FieldType)) ∈ lw_all := lw_g (lw_at lw_m5 164 rfl) rfl
theorem q1313 : (Jvm.Cond.instanceMethod ({ cls := "java/util/ArrayList", name := "isEmpty", desc := "()Z" } : Jvm.MethodName)) ∈ lw_all := lw_g (lw_at lw_m5 195 rfl) rfl
theorem q1314 : (Jvm.Cond.selects "java/util/ArrayList" ({ cls := "java/util/ArrayList", name := "isEmpty", desc := "()Z" } : Jvm.MethodName) ({ cls := "java/util/ArrayList", name := "isEmpty", desc := "()Z" } : Jvm.MethodName)) ∈ lw_all := lw_g (lw_at lw_m5 196 rfl) rfl
theorem q1315 : (Jvm.Cond.code ({ cls := "java/util/ArrayList", name := "isEmpty", desc := "()Z" } : Jvm.MethodName) prog_39_method_9_code (1 : Nat) (Option.some Jvm.ClassFile.FieldType.boolean)) ∈ lw_all := lw_g (lw_at lw_m5 197 rfl) rfl
theorem q1511 : (Jvm.Cond.instanceMethod ({ cls := "java/util/ArrayList", name := "addAll", desc := "(Ljava/util/Collection;)Z" } : Jvm.MethodName)) ∈ lw_all := lw_g (lw_at lw_m6 153 rfl) rfl
theorem q1512 : (Jvm.Cond.selects "java/util/ArrayList" ({ cls := "java/util/ArrayList", name := "addAll", desc := "(Ljava/util/Collection;)Z" } : Jvm.MethodName) ({ cls := "java/util/ArrayList", name := "addAll", desc := "(Ljava/util/Collection;)Z" } : Jvm.MethodName)) ∈ lw_all := lw_g (lw_at lw_m6 154 rfl) rfl
theorem q1513 : (Jvm.Cond.code ({ cls := "java/util/ArrayList", name := "addAll", desc := "(Ljava/util/Collection;)Z" } : Jvm.MethodName) prog_39_method_41_code (6 : Nat) (Option.some Jvm.ClassFile.FieldType.boolean)) ∈ lw_all := lw_g (lw_at lw_m6 155 rfl) rfl
theorem q1514 : (Jvm.Cond.interfaceEntry "java/util/ArrayList" (42 : Nat)) ∈ lw_tbl := lw_at lw_m6 156 rfl
theorem q1515 : (Jvm.Cond.methodLink "java/util/ArrayList" (42 : Nat) ({ cls := "java/util/Collection", name := "toArray", desc := "()[Ljava/lang/Object;" } : Jvm.MethodName)) ∈ lw_all := lw_g (lw_at lw_m6 157 rfl) rfl
theorem q1518 : (Jvm.Cond.castable "java/util/ArrayList" "java/util/Collection") ∈ lw_tbl := lw_at lw_m6 160 rfl
theorem q1519 : (Jvm.Cond.selects "java/util/ArrayList" ({ cls := "java/util/Collection", name := "toArray", desc := "()[Ljava/lang/Object;" } : Jvm.MethodName) ({ cls := "java/util/ArrayList", name := "toArray", desc := "()[Ljava/lang/Object;" } : Jvm.MethodName)) ∈ lw_all := lw_g (lw_at lw_m6 161 rfl) rfl
theorem q1520 : (Jvm.Cond.unhidden "java/util/ArrayList" "toArray" "()[Ljava/lang/Object;") ∈ lw_tbl := lw_at lw_m6 162 rfl
theorem q1521 : (Jvm.Cond.instanceMethod ({ cls := "java/util/ArrayList", name := "toArray", desc := "()[Ljava/lang/Object;" } : Jvm.MethodName)) ∈ lw_all := lw_g (lw_at lw_m6 163 rfl) rfl
theorem q1522 : (Jvm.Cond.publicMethod ({ cls := "java/util/ArrayList", name := "toArray", desc := "()[Ljava/lang/Object;" } : Jvm.MethodName)) ∈ lw_tbl := lw_at lw_m6 164 rfl
theorem q1523 : (Jvm.Cond.code ({ cls := "java/util/ArrayList", name := "toArray", desc := "()[Ljava/lang/Object;" } : Jvm.MethodName) prog_39_method_16_code (1 : Nat) (Option.some (Jvm.ClassFile.FieldType.array (Jvm.ClassFile.FieldType.object "java/lang/Object")))) ∈ lw_all := lw_g (lw_at lw_m6 165 rfl) rfl
theorem q1524 : (Jvm.Cond.methodLink "java/util/ArrayList" (112 : Nat) ({ cls := "java/lang/System", name := "arraycopy", desc := "(Ljava/lang/Object;ILjava/lang/Object;II)V" } : Jvm.MethodName)) ∈ lw_all := lw_g (lw_at lw_m6 166 rfl) rfl
theorem q2292 : (Jvm.Cond.castable "java/util/ArrayList" "java/lang/Object") ∈ lw_tbl := lw_at lw_m9 214 rfl
theorem in_J2 : ∀ w ∈ wsJ20, w ∈ lw_all := lw_in wsJ20 [300, 296, 298] (by decide +kernel) (by decide +kernel)

theorem q166 : (Jvm.Cond.initialized "java/lang/Record") ∈ lw_all := lw_g (lw_at lw_m1 8 rfl) rfl
theorem q309 : (Jvm.Cond.instanceMethod ({ cls := "java/lang/Record", name := "<init>", desc := "()V" } : Jvm.MethodName)) ∈ lw_all := lw_g (lw_at lw_m1 151 rfl) rfl
theorem q310 : (Jvm.Cond.code ({ cls := "java/lang/Record", name := "<init>", desc := "()V" } : Jvm.MethodName) prog_30_method_1_code (1 : Nat) (Option.none : Option Jvm.ClassFile.FieldType)) ∈ lw_all := lw_g (lw_at lw_m1 152 rfl) rfl
theorem q311 : (Jvm.Cond.methodLink "java/lang/Record" (1 : Nat) ({ cls := "java/lang/Object", name := "<init>", desc := "()V" } : Jvm.MethodName)) ∈ lw_all := lw_g (lw_at lw_m1 153 rfl) rfl

theorem q167 : (Jvm.Cond.initialized "StiltTown$Whole") ∈ lw_all := lw_g (lw_at lw_m1 9 rfl) rfl
theorem q304 : (Jvm.Cond.instantiable "StiltTown$Whole" (1 : Nat)) ∈ lw_all := lw_g (lw_at lw_m1 146 rfl) rfl
theorem q306 : (Jvm.Cond.instanceMethod ({ cls := "StiltTown$Whole", name := "<init>", desc := "(I)V" } : Jvm.MethodName)) ∈ lw_all := lw_g (lw_at lw_m1 148 rfl) rfl
theorem q307 : (Jvm.Cond.code ({ cls := "StiltTown$Whole", name := "<init>", desc := "(I)V" } : Jvm.MethodName) prog_19_method_1_code (2 : Nat) (Option.none : Option Jvm.ClassFile.FieldType)) ∈ lw_all := lw_g (lw_at lw_m1 149 rfl) rfl
theorem q308 : (Jvm.Cond.methodLink "StiltTown$Whole" (1 : Nat) ({ cls := "java/lang/Record", name := "<init>", desc := "()V" } : Jvm.MethodName)) ∈ lw_all := lw_g (lw_at lw_m1 150 rfl) rfl
theorem q312 : (Jvm.Cond.fieldLink "StiltTown$Whole" (7 : Nat) "StiltTown$Whole" "number" "I") ∈ lw_all := lw_g (lw_at lw_m1 154 rfl) rfl
theorem q313 : (Jvm.Cond.laysFinal "StiltTown$Whole" "StiltTown$Whole" "number" "I") ∈ lw_all := lw_g (lw_at lw_m1 155 rfl) rfl
theorem q314 : (Jvm.Cond.soleField "StiltTown$Whole" "number") ∈ lw_all := lw_g (lw_at lw_m1 156 rfl) rfl
theorem q315 : (Jvm.Cond.superclass "StiltTown$Whole" "java/lang/Record") ∈ lw_all := lw_g (lw_at lw_m1 157 rfl) rfl
theorem q844 : (Jvm.Cond.selects "StiltTown$Whole" ({ cls := "java/lang/Object", name := "getClass", desc := "()Ljava/lang/Class;" } : Jvm.MethodName) ({ cls := "java/lang/Object", name := "getClass", desc := "()Ljava/lang/Class;" } : Jvm.MethodName)) ∈ lw_all := lw_g (lw_at lw_m3 206 rfl) rfl
theorem q1077 : (Jvm.Cond.castable "StiltTown$Whole" "StiltTown$Term") ∈ lw_tbl := lw_at lw_m4 199 rfl
theorem q1078 : (Jvm.Cond.selects "StiltTown$Whole" ({ cls := "StiltTown$Term", name := "value", desc := "(LStiltTown$View;)I" } : Jvm.MethodName) ({ cls := "StiltTown$Whole", name := "value", desc := "(LStiltTown$View;)I" } : Jvm.MethodName)) ∈ lw_all := lw_g (lw_at lw_m4 200 rfl) rfl
theorem q1079 : (Jvm.Cond.unhidden "StiltTown$Whole" "value" "(LStiltTown$View;)I") ∈ lw_tbl := lw_at lw_m4 201 rfl
theorem q1080 : (Jvm.Cond.instanceMethod ({ cls := "StiltTown$Whole", name := "value", desc := "(LStiltTown$View;)I" } : Jvm.MethodName)) ∈ lw_all := lw_g (lw_at lw_m4 202 rfl) rfl
theorem q1081 : (Jvm.Cond.publicMethod ({ cls := "StiltTown$Whole", name := "value", desc := "(LStiltTown$View;)I" } : Jvm.MethodName)) ∈ lw_tbl := lw_at lw_m4 203 rfl
theorem q1082 : (Jvm.Cond.code ({ cls := "StiltTown$Whole", name := "value", desc := "(LStiltTown$View;)I" } : Jvm.MethodName) prog_19_method_2_code (2 : Nat) (Option.some Jvm.ClassFile.FieldType.int)) ∈ lw_all := lw_g (lw_at lw_m4 204 rfl) rfl
theorem q2293 : (Jvm.Cond.castable "StiltTown$Whole" "java/lang/Object") ∈ lw_tbl := lw_at lw_m9 215 rfl
theorem in_X4 : ∀ w ∈ wsX40, w ∈ lw_all := lw_in wsX40 [313] (by decide +kernel) (by decide +kernel)

theorem q168 : (Jvm.Cond.initialized "StiltTown$Seen") ∈ lw_all := lw_g (lw_at lw_m1 10 rfl) rfl
theorem q318 : (Jvm.Cond.instantiable "StiltTown$Seen" (1 : Nat)) ∈ lw_all := lw_g (lw_at lw_m1 160 rfl) rfl
theorem q320 : (Jvm.Cond.instanceMethod ({ cls := "StiltTown$Seen", name := "<init>", desc := "(I)V" } : Jvm.MethodName)) ∈ lw_all := lw_g (lw_at lw_m1 162 rfl) rfl
theorem q321 : (Jvm.Cond.code ({ cls := "StiltTown$Seen", name := "<init>", desc := "(I)V" } : Jvm.MethodName) prog_12_method_1_code (2 : Nat) (Option.none : Option Jvm.ClassFile.FieldType)) ∈ lw_all := lw_g (lw_at lw_m1 163 rfl) rfl
theorem q322 : (Jvm.Cond.methodLink "StiltTown$Seen" (1 : Nat) ({ cls := "java/lang/Record", name := "<init>", desc := "()V" } : Jvm.MethodName)) ∈ lw_all := lw_g (lw_at lw_m1 164 rfl) rfl
theorem q323 : (Jvm.Cond.fieldLink "StiltTown$Seen" (7 : Nat) "StiltTown$Seen" "which" "I") ∈ lw_all := lw_g (lw_at lw_m1 165 rfl) rfl
theorem q324 : (Jvm.Cond.laysFinal "StiltTown$Seen" "StiltTown$Seen" "which" "I") ∈ lw_all := lw_g (lw_at lw_m1 166 rfl) rfl
theorem q325 : (Jvm.Cond.soleField "StiltTown$Seen" "which") ∈ lw_all := lw_g (lw_at lw_m1 167 rfl) rfl
theorem q326 : (Jvm.Cond.superclass "StiltTown$Seen" "java/lang/Record") ∈ lw_all := lw_g (lw_at lw_m1 168 rfl) rfl
theorem q447 : (Jvm.Cond.fieldLinkNest "StiltTown$Seen" (13 : Nat) "StiltTown$View" "values" "[I" "StiltTown") ∈ lw_tbl := lw_at lw_m2 49 rfl
theorem q839 : (Jvm.Cond.selects "StiltTown$Seen" ({ cls := "java/lang/Object", name := "getClass", desc := "()Ljava/lang/Class;" } : Jvm.MethodName) ({ cls := "java/lang/Object", name := "getClass", desc := "()Ljava/lang/Class;" } : Jvm.MethodName)) ∈ lw_all := lw_g (lw_at lw_m3 201 rfl) rfl
theorem q1071 : (Jvm.Cond.castable "StiltTown$Seen" "StiltTown$Term") ∈ lw_tbl := lw_at lw_m4 193 rfl
theorem q1072 : (Jvm.Cond.selects "StiltTown$Seen" ({ cls := "StiltTown$Term", name := "value", desc := "(LStiltTown$View;)I" } : Jvm.MethodName) ({ cls := "StiltTown$Seen", name := "value", desc := "(LStiltTown$View;)I" } : Jvm.MethodName)) ∈ lw_all := lw_g (lw_at lw_m4 194 rfl) rfl
theorem q1073 : (Jvm.Cond.unhidden "StiltTown$Seen" "value" "(LStiltTown$View;)I") ∈ lw_tbl := lw_at lw_m4 195 rfl
theorem q1074 : (Jvm.Cond.instanceMethod ({ cls := "StiltTown$Seen", name := "value", desc := "(LStiltTown$View;)I" } : Jvm.MethodName)) ∈ lw_all := lw_g (lw_at lw_m4 196 rfl) rfl
theorem q1075 : (Jvm.Cond.publicMethod ({ cls := "StiltTown$Seen", name := "value", desc := "(LStiltTown$View;)I" } : Jvm.MethodName)) ∈ lw_tbl := lw_at lw_m4 197 rfl
theorem q1076 : (Jvm.Cond.code ({ cls := "StiltTown$Seen", name := "value", desc := "(LStiltTown$View;)I" } : Jvm.MethodName) prog_12_method_2_code (2 : Nat) (Option.some Jvm.ClassFile.FieldType.int)) ∈ lw_all := lw_g (lw_at lw_m4 198 rfl) rfl
theorem q2294 : (Jvm.Cond.castable "StiltTown$Seen" "java/lang/Object") ∈ lw_tbl := lw_at lw_m9 216 rfl
theorem in_X5 : ∀ w ∈ wsX50, w ∈ lw_all := lw_in wsX50 [324] (by decide +kernel) (by decide +kernel)

theorem q169 : (Jvm.Cond.initialized "StiltTown$State") ∈ lw_all := lw_g (lw_at lw_m1 11 rfl) rfl
theorem q405 : (Jvm.Cond.instantiable "StiltTown$State" (6 : Nat)) ∈ lw_all := lw_g (lw_at lw_m2 7 rfl) rfl
theorem q407 : (Jvm.Cond.instanceMethod ({ cls := "StiltTown$State", name := "<init>", desc := "()V" } : Jvm.MethodName)) ∈ lw_all := lw_g (lw_at lw_m2 9 rfl) rfl
theorem q408 : (Jvm.Cond.code ({ cls := "StiltTown$State", name := "<init>", desc := "()V" } : Jvm.MethodName) prog_14_method_1_code (1 : Nat) (Option.none : Option Jvm.ClassFile.FieldType)) ∈ lw_all := lw_g (lw_at lw_m2 10 rfl) rfl
theorem q409 : (Jvm.Cond.methodLink "StiltTown$State" (3 : Nat) ({ cls := "java/lang/Object", name := "<init>", desc := "()V" } : Jvm.MethodName)) ∈ lw_all := lw_g (lw_at lw_m2 11 rfl) rfl
theorem q410 : (Jvm.Cond.classLink "StiltTown$State" (21 : Nat) "java/util/ArrayList") ∈ lw_all := lw_g (lw_at lw_m2 12 rfl) rfl
theorem q411 : (Jvm.Cond.methodLink "StiltTown$State" (23 : Nat) ({ cls := "java/util/ArrayList", name := "<init>", desc := "()V" } : Jvm.MethodName)) ∈ lw_all := lw_g (lw_at lw_m2 13 rfl) rfl
theorem q412 : (Jvm.Cond.fieldLink "StiltTown$State" (9 : Nat) "StiltTown$State" "height" "[I") ∈ lw_all := lw_g (lw_at lw_m2 14 rfl) rfl
theorem q415 : (Jvm.Cond.fieldLink "StiltTown$State" (15 : Nat) "StiltTown$State" "officeOf" "[I") ∈ lw_all := lw_g (lw_at lw_m2 17 rfl) rfl
theorem q417 : (Jvm.Cond.fieldLink "StiltTown$State" (18 : Nat) "StiltTown$State" "wood" "[I") ∈ lw_all := lw_g (lw_at lw_m2 19 rfl) rfl
theorem q420 : (Jvm.Cond.fieldLink "StiltTown$State" (38 : Nat) "StiltTown$State" "month" "I") ∈ lw_all := lw_g (lw_at lw_m2 22 rfl) rfl
theorem q422 : (Jvm.Cond.fieldLink "StiltTown$State" (24 : Nat) "StiltTown$State" "works" "Ljava/util/ArrayList;") ∈ lw_all := lw_g (lw_at lw_m2 24 rfl) rfl
theorem q424 : (Jvm.Cond.fieldLink "StiltTown$State" (28 : Nat) "StiltTown$State" "logs" "Ljava/util/ArrayList;") ∈ lw_all := lw_g (lw_at lw_m2 26 rfl) rfl
theorem q426 : (Jvm.Cond.laysFinal "StiltTown$State" "StiltTown$State" "height" "[I") ∈ lw_all := lw_g (lw_at lw_m2 28 rfl) rfl
theorem q427 : (Jvm.Cond.soleField "StiltTown$State" "height") ∈ lw_all := lw_g (lw_at lw_m2 29 rfl) rfl
theorem q428 : (Jvm.Cond.laysFinal "StiltTown$State" "StiltTown$State" "officeOf" "[I") ∈ lw_all := lw_g (lw_at lw_m2 30 rfl) rfl
theorem q429 : (Jvm.Cond.soleField "StiltTown$State" "officeOf") ∈ lw_all := lw_g (lw_at lw_m2 31 rfl) rfl
theorem q430 : (Jvm.Cond.laysFinal "StiltTown$State" "StiltTown$State" "wood" "[I") ∈ lw_all := lw_g (lw_at lw_m2 32 rfl) rfl
theorem q431 : (Jvm.Cond.soleField "StiltTown$State" "wood") ∈ lw_all := lw_g (lw_at lw_m2 33 rfl) rfl
theorem q432 : (Jvm.Cond.lays "StiltTown$State" "StiltTown$State" "month" "I") ∈ lw_all := lw_g (lw_at lw_m2 34 rfl) rfl
theorem q433 : (Jvm.Cond.soleField "StiltTown$State" "month") ∈ lw_all := lw_g (lw_at lw_m2 35 rfl) rfl
theorem q434 : (Jvm.Cond.laysFinal "StiltTown$State" "StiltTown$State" "works" "Ljava/util/ArrayList;") ∈ lw_all := lw_g (lw_at lw_m2 36 rfl) rfl
theorem q435 : (Jvm.Cond.soleField "StiltTown$State" "works") ∈ lw_all := lw_g (lw_at lw_m2 37 rfl) rfl
theorem q436 : (Jvm.Cond.laysFinal "StiltTown$State" "StiltTown$State" "logs" "Ljava/util/ArrayList;") ∈ lw_all := lw_g (lw_at lw_m2 38 rfl) rfl
theorem q437 : (Jvm.Cond.soleField "StiltTown$State" "logs") ∈ lw_all := lw_g (lw_at lw_m2 39 rfl) rfl
theorem q438 : (Jvm.Cond.superclass "StiltTown$State" "java/lang/Object") ∈ lw_all := lw_g (lw_at lw_m2 40 rfl) rfl
theorem q841 : (Jvm.Cond.selects "StiltTown$State" ({ cls := "java/lang/Object", name := "getClass", desc := "()Ljava/lang/Class;" } : Jvm.MethodName) ({ cls := "java/lang/Object", name := "getClass", desc := "()Ljava/lang/Class;" } : Jvm.MethodName)) ∈ lw_all := lw_g (lw_at lw_m3 203 rfl) rfl
theorem q1504 : (Jvm.Cond.instanceMethod ({ cls := "StiltTown$State", name := "twin", desc := "()LStiltTown$State;" } : Jvm.MethodName)) ∈ lw_all := lw_g (lw_at lw_m6 146 rfl) rfl
theorem q1505 : (Jvm.Cond.selects "StiltTown$State" ({ cls := "StiltTown$State", name := "twin", desc := "()LStiltTown$State;" } : Jvm.MethodName) ({ cls := "StiltTown$State", name := "twin", desc := "()LStiltTown$State;" } : Jvm.MethodName)) ∈ lw_all := lw_g (lw_at lw_m6 147 rfl) rfl
theorem q1506 : (Jvm.Cond.code ({ cls := "StiltTown$State", name := "twin", desc := "()LStiltTown$State;" } : Jvm.MethodName) prog_14_method_2_code (2 : Nat) (Option.some (Jvm.ClassFile.FieldType.object "StiltTown$State"))) ∈ lw_all := lw_g (lw_at lw_m6 148 rfl) rfl
theorem q1507 : (Jvm.Cond.classLink "StiltTown$State" (10 : Nat) "StiltTown$State") ∈ lw_all := lw_g (lw_at lw_m6 149 rfl) rfl
theorem q1508 : (Jvm.Cond.methodLink "StiltTown$State" (31 : Nat) ({ cls := "StiltTown$State", name := "<init>", desc := "()V" } : Jvm.MethodName)) ∈ lw_all := lw_g (lw_at lw_m6 150 rfl) rfl
theorem q1509 : (Jvm.Cond.methodLink "StiltTown$State" (32 : Nat) ({ cls := "java/lang/System", name := "arraycopy", desc := "(Ljava/lang/Object;ILjava/lang/Object;II)V" } : Jvm.MethodName)) ∈ lw_all := lw_g (lw_at lw_m6 151 rfl) rfl
theorem q1510 : (Jvm.Cond.methodLink "StiltTown$State" (42 : Nat) ({ cls := "java/util/ArrayList", name := "addAll", desc := "(Ljava/util/Collection;)Z" } : Jvm.MethodName)) ∈ lw_all := lw_g (lw_at lw_m6 152 rfl) rfl
theorem q2285 : (Jvm.Cond.castable "StiltTown$State" "java/lang/Object") ∈ lw_tbl := lw_at lw_m9 207 rfl
theorem in_X6 : ∀ w ∈ wsX60, w ∈ lw_all := lw_in wsX60 [426, 428, 430, 432, 434, 436] (by decide +kernel) (by decide +kernel)

theorem q170 : (Jvm.Cond.initialized "StiltTown$View") ∈ lw_all := lw_g (lw_at lw_m1 12 rfl) rfl
theorem q441 : (Jvm.Cond.instantiable "StiltTown$View" (2 : Nat)) ∈ lw_all := lw_g (lw_at lw_m2 43 rfl) rfl
theorem q443 : (Jvm.Cond.instanceMethod ({ cls := "StiltTown$View", name := "<init>", desc := "()V" } : Jvm.MethodName)) ∈ lw_all := lw_g (lw_at lw_m2 45 rfl) rfl
theorem q444 : (Jvm.Cond.code ({ cls := "StiltTown$View", name := "<init>", desc := "()V" } : Jvm.MethodName) prog_18_method_1_code (1 : Nat) (Option.none : Option Jvm.ClassFile.FieldType)) ∈ lw_all := lw_g (lw_at lw_m2 46 rfl) rfl
theorem q445 : (Jvm.Cond.methodLink "StiltTown$View" (1 : Nat) ({ cls := "java/lang/Object", name := "<init>", desc := "()V" } : Jvm.MethodName)) ∈ lw_all := lw_g (lw_at lw_m2 47 rfl) rfl
theorem q446 : (Jvm.Cond.fieldLink "StiltTown$View" (7 : Nat) "StiltTown$View" "values" "[I") ∈ lw_all := lw_g (lw_at lw_m2 48 rfl) rfl
theorem q451 : (Jvm.Cond.fieldLink "StiltTown$View" (13 : Nat) "StiltTown$View" "broken" "Z") ∈ lw_all := lw_g (lw_at lw_m2 53 rfl) rfl
theorem q452 : (Jvm.Cond.laysFinal "StiltTown$View" "StiltTown$View" "values" "[I") ∈ lw_all := lw_g (lw_at lw_m2 54 rfl) rfl
theorem q453 : (Jvm.Cond.soleField "StiltTown$View" "values") ∈ lw_all := lw_g (lw_at lw_m2 55 rfl) rfl
theorem q454 : (Jvm.Cond.lays "StiltTown$View" "StiltTown$View" "broken" "Z") ∈ lw_all := lw_g (lw_at lw_m2 56 rfl) rfl
theorem q455 : (Jvm.Cond.soleField "StiltTown$View" "broken") ∈ lw_all := lw_g (lw_at lw_m2 57 rfl) rfl
theorem q456 : (Jvm.Cond.superclass "StiltTown$View" "java/lang/Object") ∈ lw_all := lw_g (lw_at lw_m2 58 rfl) rfl
theorem q843 : (Jvm.Cond.selects "StiltTown$View" ({ cls := "java/lang/Object", name := "getClass", desc := "()Ljava/lang/Class;" } : Jvm.MethodName) ({ cls := "java/lang/Object", name := "getClass", desc := "()Ljava/lang/Class;" } : Jvm.MethodName)) ∈ lw_all := lw_g (lw_at lw_m3 205 rfl) rfl
theorem q1052 : (Jvm.Cond.instanceMethod ({ cls := "StiltTown$View", name := "clear", desc := "()V" } : Jvm.MethodName)) ∈ lw_all := lw_g (lw_at lw_m4 174 rfl) rfl
theorem q1053 : (Jvm.Cond.selects "StiltTown$View" ({ cls := "StiltTown$View", name := "clear", desc := "()V" } : Jvm.MethodName) ({ cls := "StiltTown$View", name := "clear", desc := "()V" } : Jvm.MethodName)) ∈ lw_all := lw_g (lw_at lw_m4 175 rfl) rfl
theorem q1054 : (Jvm.Cond.code ({ cls := "StiltTown$View", name := "clear", desc := "()V" } : Jvm.MethodName) prog_18_method_2_code (2 : Nat) (Option.none : Option Jvm.ClassFile.FieldType)) ∈ lw_all := lw_g (lw_at lw_m4 176 rfl) rfl
theorem q1056 : (Jvm.Cond.instanceMethod ({ cls := "StiltTown$View", name := "says", desc := "(LStiltTown$Term;I)I" } : Jvm.MethodName)) ∈ lw_all := lw_g (lw_at lw_m4 178 rfl) rfl
theorem q1057 : (Jvm.Cond.selects "StiltTown$View" ({ cls := "StiltTown$View", name := "says", desc := "(LStiltTown$Term;I)I" } : Jvm.MethodName) ({ cls := "StiltTown$View", name := "says", desc := "(LStiltTown$Term;I)I" } : Jvm.MethodName)) ∈ lw_all := lw_g (lw_at lw_m4 179 rfl) rfl
theorem q1058 : (Jvm.Cond.code ({ cls := "StiltTown$View", name := "says", desc := "(LStiltTown$Term;I)I" } : Jvm.MethodName) prog_18_method_3_code (4 : Nat) (Option.some Jvm.ClassFile.FieldType.int)) ∈ lw_all := lw_g (lw_at lw_m4 180 rfl) rfl
theorem q1059 : (Jvm.Cond.interfaceEntry "StiltTown$View" (17 : Nat)) ∈ lw_tbl := lw_at lw_m4 181 rfl
theorem q1060 : (Jvm.Cond.methodLink "StiltTown$View" (17 : Nat) ({ cls := "StiltTown$Term", name := "value", desc := "(LStiltTown$View;)I" } : Jvm.MethodName)) ∈ lw_all := lw_g (lw_at lw_m4 182 rfl) rfl
theorem q1083 : (Jvm.Cond.methodLinkNest "StiltTown$View" (23 : Nat) ({ cls := "StiltTown", name := "held", desc := "(II)I" } : Jvm.MethodName) "StiltTown") ∈ lw_tbl := lw_at lw_m4 205 rfl
theorem q2295 : (Jvm.Cond.castable "StiltTown$View" "java/lang/Object") ∈ lw_tbl := lw_at lw_m9 217 rfl
theorem in_X7 : ∀ w ∈ wsX70, w ∈ lw_all := lw_in wsX70 [452, 454] (by decide +kernel) (by decide +kernel)

theorem q171 : (Jvm.Cond.initialized "StiltTown$Kept") ∈ lw_all := lw_g (lw_at lw_m1 13 rfl) rfl
theorem q413 : (Jvm.Cond.fieldLinkNest "StiltTown$Kept" (18 : Nat) "StiltTown$State" "height" "[I" "StiltTown") ∈ lw_tbl := lw_at lw_m2 15 rfl
theorem q418 : (Jvm.Cond.fieldLinkNest "StiltTown$Kept" (27 : Nat) "StiltTown$State" "wood" "[I" "StiltTown") ∈ lw_tbl := lw_at lw_m2 20 rfl
theorem q458 : (Jvm.Cond.instantiable "StiltTown$Kept" (2 : Nat)) ∈ lw_all := lw_g (lw_at lw_m2 60 rfl) rfl
theorem q460 : (Jvm.Cond.instanceMethod ({ cls := "StiltTown$Kept", name := "<init>", desc := "()V" } : Jvm.MethodName)) ∈ lw_all := lw_g (lw_at lw_m2 62 rfl) rfl
theorem q461 : (Jvm.Cond.code ({ cls := "StiltTown$Kept", name := "<init>", desc := "()V" } : Jvm.MethodName) prog_5_method_1_code (1 : Nat) (Option.none : Option Jvm.ClassFile.FieldType)) ∈ lw_all := lw_g (lw_at lw_m2 63 rfl) rfl
theorem q462 : (Jvm.Cond.methodLink "StiltTown$Kept" (3 : Nat) ({ cls := "java/lang/Object", name := "<init>", desc := "()V" } : Jvm.MethodName)) ∈ lw_all := lw_g (lw_at lw_m2 64 rfl) rfl
theorem q463 : (Jvm.Cond.fieldLink "StiltTown$Kept" (9 : Nat) "StiltTown$Kept" "height" "[I") ∈ lw_all := lw_g (lw_at lw_m2 65 rfl) rfl
theorem q465 : (Jvm.Cond.fieldLink "StiltTown$Kept" (15 : Nat) "StiltTown$Kept" "wood" "[I") ∈ lw_all := lw_g (lw_at lw_m2 67 rfl) rfl
theorem q467 : (Jvm.Cond.laysFinal "StiltTown$Kept" "StiltTown$Kept" "height" "[I") ∈ lw_all := lw_g (lw_at lw_m2 69 rfl) rfl
theorem q468 : (Jvm.Cond.soleField "StiltTown$Kept" "height") ∈ lw_all := lw_g (lw_at lw_m2 70 rfl) rfl
theorem q469 : (Jvm.Cond.laysFinal "StiltTown$Kept" "StiltTown$Kept" "wood" "[I") ∈ lw_all := lw_g (lw_at lw_m2 71 rfl) rfl
theorem q470 : (Jvm.Cond.soleField "StiltTown$Kept" "wood") ∈ lw_all := lw_g (lw_at lw_m2 72 rfl) rfl
theorem q471 : (Jvm.Cond.superclass "StiltTown$Kept" "java/lang/Object") ∈ lw_all := lw_g (lw_at lw_m2 73 rfl) rfl
theorem q832 : (Jvm.Cond.selects "StiltTown$Kept" ({ cls := "java/lang/Object", name := "getClass", desc := "()Ljava/lang/Class;" } : Jvm.MethodName) ({ cls := "java/lang/Object", name := "getClass", desc := "()Ljava/lang/Class;" } : Jvm.MethodName)) ∈ lw_all := lw_g (lw_at lw_m3 194 rfl) rfl
theorem q1288 : (Jvm.Cond.instanceMethod ({ cls := "StiltTown$Kept", name := "keep", desc := "(LStiltTown$State;)V" } : Jvm.MethodName)) ∈ lw_all := lw_g (lw_at lw_m5 170 rfl) rfl
theorem q1289 : (Jvm.Cond.selects "StiltTown$Kept" ({ cls := "StiltTown$Kept", name := "keep", desc := "(LStiltTown$State;)V" } : Jvm.MethodName) ({ cls := "StiltTown$Kept", name := "keep", desc := "(LStiltTown$State;)V" } : Jvm.MethodName)) ∈ lw_all := lw_g (lw_at lw_m5 171 rfl) rfl
theorem q1290 : (Jvm.Cond.code ({ cls := "StiltTown$Kept", name := "keep", desc := "(LStiltTown$State;)V" } : Jvm.MethodName) prog_5_method_2_code (2 : Nat) (Option.none : Option Jvm.ClassFile.FieldType)) ∈ lw_all := lw_g (lw_at lw_m5 172 rfl) rfl
theorem q1291 : (Jvm.Cond.methodLink "StiltTown$Kept" (21 : Nat) ({ cls := "java/lang/System", name := "arraycopy", desc := "(Ljava/lang/Object;ILjava/lang/Object;II)V" } : Jvm.MethodName)) ∈ lw_all := lw_g (lw_at lw_m5 173 rfl) rfl
theorem q1305 : (Jvm.Cond.instanceMethod ({ cls := "StiltTown$Kept", name := "back", desc := "(LStiltTown$State;)V" } : Jvm.MethodName)) ∈ lw_all := lw_g (lw_at lw_m5 187 rfl) rfl
theorem q1306 : (Jvm.Cond.selects "StiltTown$Kept" ({ cls := "StiltTown$Kept", name := "back", desc := "(LStiltTown$State;)V" } : Jvm.MethodName) ({ cls := "StiltTown$Kept", name := "back", desc := "(LStiltTown$State;)V" } : Jvm.MethodName)) ∈ lw_all := lw_g (lw_at lw_m5 188 rfl) rfl
theorem q1307 : (Jvm.Cond.code ({ cls := "StiltTown$Kept", name := "back", desc := "(LStiltTown$State;)V" } : Jvm.MethodName) prog_5_method_3_code (2 : Nat) (Option.none : Option Jvm.ClassFile.FieldType)) ∈ lw_all := lw_g (lw_at lw_m5 189 rfl) rfl
theorem q2286 : (Jvm.Cond.castable "StiltTown$Kept" "java/lang/Object") ∈ lw_tbl := lw_at lw_m9 208 rfl
theorem in_X8 : ∀ w ∈ wsX80, w ∈ lw_all := lw_in wsX80 [467, 469] (by decide +kernel) (by decide +kernel)

theorem q172 : (Jvm.Cond.initialized "StiltTownModel") ∈ lw_all := lw_g (lw_at lw_m1 14 rfl) rfl
theorem q847 : (Jvm.Cond.selects "StiltTownModel" ({ cls := "java/lang/Object", name := "getClass", desc := "()Ljava/lang/Class;" } : Jvm.MethodName) ({ cls := "java/lang/Object", name := "getClass", desc := "()Ljava/lang/Class;" } : Jvm.MethodName)) ∈ lw_all := lw_g (lw_at lw_m3 209 rfl) rfl
theorem q1534 : (Jvm.Cond.instantiable "StiltTownModel" (53 : Nat)) ∈ lw_all := lw_g (lw_at lw_m6 176 rfl) rfl
theorem q1536 : (Jvm.Cond.instanceMethod ({ cls := "StiltTownModel", name := "<init>", desc := "()V" } : Jvm.MethodName)) ∈ lw_all := lw_g (lw_at lw_m6 178 rfl) rfl
theorem q1537 : (Jvm.Cond.code ({ cls := "StiltTownModel", name := "<init>", desc := "()V" } : Jvm.MethodName) prog_23_method_1_code (1 : Nat) (Option.none : Option Jvm.ClassFile.FieldType)) ∈ lw_all := lw_g (lw_at lw_m6 179 rfl) rfl
theorem q1538 : (Jvm.Cond.methodLink "StiltTownModel" (1 : Nat) ({ cls := "java/lang/Object", name := "<init>", desc := "()V" } : Jvm.MethodName)) ∈ lw_all := lw_g (lw_at lw_m6 180 rfl) rfl
theorem q1539 : (Jvm.Cond.methodLink "StiltTownModel" (118 : Nat) ({ cls := "StiltTownModel", name := "begin", desc := "(I)V" } : Jvm.MethodName)) ∈ lw_all := lw_g (lw_at lw_m6 181 rfl) rfl
theorem q1540 : (Jvm.Cond.privateMethod ({ cls := "StiltTownModel", name := "begin", desc := "(I)V" } : Jvm.MethodName)) ∈ lw_tbl := lw_at lw_m6 182 rfl
theorem q1541 : (Jvm.Cond.instanceMethod ({ cls := "StiltTownModel", name := "begin", desc := "(I)V" } : Jvm.MethodName)) ∈ lw_all := lw_g (lw_at lw_m6 183 rfl) rfl
theorem q1542 : (Jvm.Cond.code ({ cls := "StiltTownModel", name := "begin", desc := "(I)V" } : Jvm.MethodName) prog_23_method_29_code (3 : Nat) (Option.none : Option Jvm.ClassFile.FieldType)) ∈ lw_all := lw_g (lw_at lw_m6 184 rfl) rfl
theorem q1543 : (Jvm.Cond.methodLink "StiltTownModel" (122 : Nat) ({ cls := "StiltTownModel", name := "settle", desc := "()V" } : Jvm.MethodName)) ∈ lw_all := lw_g (lw_at lw_m6 185 rfl) rfl
theorem q1544 : (Jvm.Cond.privateMethod ({ cls := "StiltTownModel", name := "settle", desc := "()V" } : Jvm.MethodName)) ∈ lw_tbl := lw_at lw_m6 186 rfl
theorem q1545 : (Jvm.Cond.instanceMethod ({ cls := "StiltTownModel", name := "settle", desc := "()V" } : Jvm.MethodName)) ∈ lw_all := lw_g (lw_at lw_m6 187 rfl) rfl
theorem q1546 : (Jvm.Cond.code ({ cls := "StiltTownModel", name := "settle", desc := "()V" } : Jvm.MethodName) prog_23_method_31_code (2 : Nat) (Option.none : Option Jvm.ClassFile.FieldType)) ∈ lw_all := lw_g (lw_at lw_m6 188 rfl) rfl
theorem q1547 : (Jvm.Cond.methodLink "StiltTownModel" (277 : Nat) ({ cls := "StiltTownModel", name := "gives", desc := "(II)V" } : Jvm.MethodName)) ∈ lw_all := lw_g (lw_at lw_m6 189 rfl) rfl
theorem q1548 : (Jvm.Cond.privateMethod ({ cls := "StiltTownModel", name := "gives", desc := "(II)V" } : Jvm.MethodName)) ∈ lw_tbl := lw_at lw_m6 190 rfl
theorem q1549 : (Jvm.Cond.instanceMethod ({ cls := "StiltTownModel", name := "gives", desc := "(II)V" } : Jvm.MethodName)) ∈ lw_all := lw_g (lw_at lw_m6 191 rfl) rfl
theorem q1550 : (Jvm.Cond.code ({ cls := "StiltTownModel", name := "gives", desc := "(II)V" } : Jvm.MethodName) prog_23_method_63_code (4 : Nat) (Option.none : Option Jvm.ClassFile.FieldType)) ∈ lw_all := lw_g (lw_at lw_m6 192 rfl) rfl
theorem q1551 : (Jvm.Cond.methodLink "StiltTownModel" (386 : Nat) ({ cls := "StiltTownModel", name := "holderOf", desc := "(I)I" } : Jvm.MethodName)) ∈ lw_all := lw_g (lw_at lw_m6 193 rfl) rfl
theorem q1552 : (Jvm.Cond.privateMethod ({ cls := "StiltTownModel", name := "holderOf", desc := "(I)I" } : Jvm.MethodName)) ∈ lw_tbl := lw_at lw_m6 194 rfl
theorem q1553 : (Jvm.Cond.instanceMethod ({ cls := "StiltTownModel", name := "holderOf", desc := "(I)I" } : Jvm.MethodName)) ∈ lw_all := lw_g (lw_at lw_m6 195 rfl) rfl
theorem q1554 : (Jvm.Cond.code ({ cls := "StiltTownModel", name := "holderOf", desc := "(I)I" } : Jvm.MethodName) prog_23_method_62_code (3 : Nat) (Option.some Jvm.ClassFile.FieldType.int)) ∈ lw_all := lw_g (lw_at lw_m6 196 rfl) rfl
theorem q1555 : (Jvm.Cond.fieldLink "StiltTownModel" (125 : Nat) "StiltTownModel" "taped" "I") ∈ lw_all := lw_g (lw_at lw_m6 197 rfl) rfl
theorem q1556 : (Jvm.Cond.fieldLink "StiltTownModel" (7 : Nat) "StiltTownModel" "tape" "[I") ∈ lw_all := lw_g (lw_at lw_m6 198 rfl) rfl
theorem q1557 : (Jvm.Cond.fieldLink "StiltTownModel" (135 : Nat) "StiltTownModel" "tokens" "I") ∈ lw_all := lw_g (lw_at lw_m6 199 rfl) rfl
theorem q1558 : (Jvm.Cond.fieldLink "StiltTownModel" (13 : Nat) "StiltTownModel" "tokenSort" "[I") ∈ lw_all := lw_g (lw_at lw_m6 200 rfl) rfl
theorem q1559 : (Jvm.Cond.fieldLink "StiltTownModel" (16 : Nat) "StiltTownModel" "tokenFrom" "[I") ∈ lw_all := lw_g (lw_at lw_m6 201 rfl) rfl
theorem q1560 : (Jvm.Cond.fieldLink "StiltTownModel" (19 : Nat) "StiltTownModel" "tokenWhat" "[I") ∈ lw_all := lw_g (lw_at lw_m6 202 rfl) rfl
theorem q1561 : (Jvm.Cond.fieldLink "StiltTownModel" (22 : Nat) "StiltTownModel" "tokenName" "[J") ∈ lw_all := lw_g (lw_at lw_m6 203 rfl) rfl
theorem q1562 : (Jvm.Cond.fieldLink "StiltTownModel" (218 : Nat) "StiltTownModel" "head" "I") ∈ lw_all := lw_g (lw_at lw_m6 204 rfl) rfl
theorem q1563 : (Jvm.Cond.fieldLink "StiltTownModel" (215 : Nat) "StiltTownModel" "fault" "I") ∈ lw_all := lw_g (lw_at lw_m6 205 rfl) rfl
theorem q1564 : (Jvm.Cond.fieldLink "StiltTownModel" (26 : Nat) "StiltTownModel" "faultPlace" "I") ∈ lw_all := lw_g (lw_at lw_m6 206 rfl) rfl
theorem q1565 : (Jvm.Cond.fieldLink "StiltTownModel" (221 : Nat) "StiltTownModel" "worst" "I") ∈ lw_all := lw_g (lw_at lw_m6 207 rfl) rfl
theorem q1566 : (Jvm.Cond.fieldLink "StiltTownModel" (224 : Nat) "StiltTownModel" "worstPlace" "I") ∈ lw_all := lw_g (lw_at lw_m6 208 rfl) rfl
theorem q1567 : (Jvm.Cond.fieldLink "StiltTownModel" (30 : Nat) "StiltTownModel" "state" "[I") ∈ lw_all := lw_g (lw_at lw_m6 209 rfl) rfl
theorem q1568 : (Jvm.Cond.fieldLink "StiltTownModel" (33 : Nat) "StiltTownModel" "live" "[I") ∈ lw_all := lw_g (lw_at lw_m6 210 rfl) rfl
theorem q1569 : (Jvm.Cond.fieldLink "StiltTownModel" (36 : Nat) "StiltTownModel" "codes" "[I") ∈ lw_all := lw_g (lw_at lw_m6 211 rfl) rfl
theorem q1570 : (Jvm.Cond.fieldLink "StiltTownModel" (39 : Nat) "StiltTownModel" "codeOp" "[I") ∈ lw_all := lw_g (lw_at lw_m6 212 rfl) rfl
theorem q1571 : (Jvm.Cond.fieldLink "StiltTownModel" (42 : Nat) "StiltTownModel" "codeValue" "[I") ∈ lw_all := lw_g (lw_at lw_m6 213 rfl) rfl
theorem q1572 : (Jvm.Cond.fieldLink "StiltTownModel" (45 : Nat) "StiltTownModel" "lits" "[I") ∈ lw_all := lw_g (lw_at lw_m6 214 rfl) rfl
theorem q1573 : (Jvm.Cond.fieldLink "StiltTownModel" (48 : Nat) "StiltTownModel" "litNot" "[Z") ∈ lw_all := lw_g (lw_at lw_m6 215 rfl) rfl
theorem q1574 : (Jvm.Cond.fieldLink "StiltTownModel" (52 : Nat) "StiltTownModel" "litOp" "[I") ∈ lw_all := lw_g (lw_at lw_m6 216 rfl) rfl
theorem q1575 : (Jvm.Cond.fieldLink "StiltTownModel" (55 : Nat) "StiltTownModel" "litA" "[I") ∈ lw_all := lw_g (lw_at lw_m6 217 rfl) rfl
theorem q1576 : (Jvm.Cond.fieldLink "StiltTownModel" (58 : Nat) "StiltTownModel" "litB" "[I") ∈ lw_all := lw_g (lw_at lw_m6 218 rfl) rfl
theorem q1577 : (Jvm.Cond.fieldLink "StiltTownModel" (61 : Nat) "StiltTownModel" "litC" "[I") ∈ lw_all := lw_g (lw_at lw_m6 219 rfl) rfl
theorem q1578 : (Jvm.Cond.fieldLink "StiltTownModel" (64 : Nat) "StiltTownModel" "litRow" "[I") ∈ lw_all := lw_g (lw_at lw_m6 220 rfl) rfl
theorem q1579 : (Jvm.Cond.fieldLink "StiltTownModel" (67 : Nat) "StiltTownModel" "isSlot" "[Z") ∈ lw_all := lw_g (lw_at lw_m6 221 rfl) rfl
theorem q1580 : (Jvm.Cond.fieldLink "StiltTownModel" (286 : Nat) "StiltTownModel" "names" "I") ∈ lw_all := lw_g (lw_at lw_m6 222 rfl) rfl
theorem q1581 : (Jvm.Cond.fieldLink "StiltTownModel" (70 : Nat) "StiltTownModel" "named" "[J") ∈ lw_all := lw_g (lw_at lw_m6 223 rfl) rfl
theorem q1582 : (Jvm.Cond.fieldLink "StiltTownModel" (73 : Nat) "StiltTownModel" "namedSort" "[I") ∈ lw_all := lw_g (lw_at lw_m6 224 rfl) rfl
theorem q1583 : (Jvm.Cond.fieldLink "StiltTownModel" (76 : Nat) "StiltTownModel" "namedNumber" "[I") ∈ lw_all := lw_g (lw_at lw_m6 225 rfl) rfl
theorem q1584 : (Jvm.Cond.fieldLink "StiltTownModel" (237 : Nat) "StiltTownModel" "valued" "I") ∈ lw_all := lw_g (lw_at lw_m6 226 rfl) rfl
theorem q1585 : (Jvm.Cond.fieldLink "StiltTownModel" (244 : Nat) "StiltTownModel" "waiting" "I") ∈ lw_all := lw_g (lw_at lw_m6 227 rfl) rfl
theorem q1586 : (Jvm.Cond.fieldLink "StiltTownModel" (79 : Nat) "StiltTownModel" "waits" "[I") ∈ lw_all := lw_g (lw_at lw_m6 228 rfl) rfl
theorem q1587 : (Jvm.Cond.fieldLink "StiltTownModel" (253 : Nat) "StiltTownModel" "exprFrom" "I") ∈ lw_all := lw_g (lw_at lw_m6 229 rfl) rfl
theorem q1588 : (Jvm.Cond.fieldLink "StiltTownModel" (268 : Nat) "StiltTownModel" "condFrom" "I") ∈ lw_all := lw_g (lw_at lw_m6 230 rfl) rfl
theorem q1589 : (Jvm.Cond.fieldLink "StiltTownModel" (82 : Nat) "StiltTownModel" "asked" "[I") ∈ lw_all := lw_g (lw_at lw_m6 231 rfl) rfl
theorem q1590 : (Jvm.Cond.fieldLink "StiltTownModel" (350 : Nat) "StiltTownModel" "broken" "Z") ∈ lw_all := lw_g (lw_at lw_m6 232 rfl) rfl
theorem q1591 : (Jvm.Cond.fieldLink "StiltTownModel" (85 : Nat) "StiltTownModel" "stack" "[I") ∈ lw_all := lw_g (lw_at lw_m6 233 rfl) rfl
theorem q1592 : (Jvm.Cond.fieldLink "StiltTownModel" (88 : Nat) "StiltTownModel" "fewest" "[I") ∈ lw_all := lw_g (lw_at lw_m6 234 rfl) rfl
theorem q1593 : (Jvm.Cond.fieldLink "StiltTownModel" (91 : Nat) "StiltTownModel" "taken" "[I") ∈ lw_all := lw_g (lw_at lw_m6 235 rfl) rfl
theorem q1594 : (Jvm.Cond.fieldLink "StiltTownModel" (94 : Nat) "StiltTownModel" "was" "[I") ∈ lw_all := lw_g (lw_at lw_m6 236 rfl) rfl
theorem q1595 : (Jvm.Cond.fieldLink "StiltTownModel" (283 : Nat) "StiltTownModel" "kept" "I") ∈ lw_all := lw_g (lw_at lw_m6 237 rfl) rfl
theorem q1596 : (Jvm.Cond.fieldLink "StiltTownModel" (448 : Nat) "StiltTownModel" "pieces" "I") ∈ lw_all := lw_g (lw_at lw_m6 238 rfl) rfl
theorem q1597 : (Jvm.Cond.fieldLink "StiltTownModel" (463 : Nat) "StiltTownModel" "untrueMany" "I") ∈ lw_all := lw_g (lw_at lw_m6 239 rfl) rfl
theorem q1598 : (Jvm.Cond.fieldLink "StiltTownModel" (97 : Nat) "StiltTownModel" "untrueHouse" "[I") ∈ lw_all := lw_g (lw_at lw_m7 0 rfl) rfl
theorem q1599 : (Jvm.Cond.fieldLink "StiltTownModel" (100 : Nat) "StiltTownModel" "dueHeight" "[I") ∈ lw_all := lw_g (lw_at lw_m7 1 rfl) rfl
theorem q1600 : (Jvm.Cond.fieldLink "StiltTownModel" (103 : Nat) "StiltTownModel" "isSafe" "[Z") ∈ lw_all := lw_g (lw_at lw_m7 2 rfl) rfl
theorem q1601 : (Jvm.Cond.fieldLink "StiltTownModel" (106 : Nat) "StiltTownModel" "nightsFrom" "[I") ∈ lw_all := lw_g (lw_at lw_m7 3 rfl) rfl
theorem q1602 : (Jvm.Cond.fieldLink "StiltTownModel" (109 : Nat) "StiltTownModel" "fellIn" "[I") ∈ lw_all := lw_g (lw_at lw_m7 4 rfl) rfl
theorem q1603 : (Jvm.Cond.fieldLink "StiltTownModel" (487 : Nat) "StiltTownModel" "fallen" "I") ∈ lw_all := lw_g (lw_at lw_m7 5 rfl) rfl
theorem q1604 : (Jvm.Cond.fieldLink "StiltTownModel" (490 : Nat) "StiltTownModel" "lastRound" "I") ∈ lw_all := lw_g (lw_at lw_m7 6 rfl) rfl
theorem q1605 : (Jvm.Cond.fieldLink "StiltTownModel" (280 : Nat) "StiltTownModel" "years" "I") ∈ lw_all := lw_g (lw_at lw_m7 7 rfl) rfl
theorem q1606 : (Jvm.Cond.fieldLink "StiltTownModel" (112 : Nat) "StiltTownModel" "yearDue" "[I") ∈ lw_all := lw_g (lw_at lw_m7 8 rfl) rfl
theorem q1607 : (Jvm.Cond.fieldLink "StiltTownModel" (115 : Nat) "StiltTownModel" "postCost" "[I") ∈ lw_all := lw_g (lw_at lw_m7 9 rfl) rfl
theorem q1608 : (Jvm.Cond.lays "StiltTownModel" "StiltTownModel" "taped" "I") ∈ lw_all := lw_g (lw_at lw_m7 10 rfl) rfl
theorem q1609 : (Jvm.Cond.soleField "StiltTownModel" "taped") ∈ lw_all := lw_g (lw_at lw_m7 11 rfl) rfl
theorem q1610 : (Jvm.Cond.laysFinal "StiltTownModel" "StiltTownModel" "tape" "[I") ∈ lw_all := lw_g (lw_at lw_m7 12 rfl) rfl
theorem q1611 : (Jvm.Cond.soleField "StiltTownModel" "tape") ∈ lw_all := lw_g (lw_at lw_m7 13 rfl) rfl
theorem q1612 : (Jvm.Cond.lays "StiltTownModel" "StiltTownModel" "tokens" "I") ∈ lw_all := lw_g (lw_at lw_m7 14 rfl) rfl
theorem q1613 : (Jvm.Cond.soleField "StiltTownModel" "tokens") ∈ lw_all := lw_g (lw_at lw_m7 15 rfl) rfl
theorem q1614 : (Jvm.Cond.laysFinal "StiltTownModel" "StiltTownModel" "tokenSort" "[I") ∈ lw_all := lw_g (lw_at lw_m7 16 rfl) rfl
theorem q1615 : (Jvm.Cond.soleField "StiltTownModel" "tokenSort") ∈ lw_all := lw_g (lw_at lw_m7 17 rfl) rfl
theorem q1616 : (Jvm.Cond.laysFinal "StiltTownModel" "StiltTownModel" "tokenFrom" "[I") ∈ lw_all := lw_g (lw_at lw_m7 18 rfl) rfl
theorem q1617 : (Jvm.Cond.soleField "StiltTownModel" "tokenFrom") ∈ lw_all := lw_g (lw_at lw_m7 19 rfl) rfl
theorem q1618 : (Jvm.Cond.laysFinal "StiltTownModel" "StiltTownModel" "tokenWhat" "[I") ∈ lw_all := lw_g (lw_at lw_m7 20 rfl) rfl
theorem q1619 : (Jvm.Cond.soleField "StiltTownModel" "tokenWhat") ∈ lw_all := lw_g (lw_at lw_m7 21 rfl) rfl
theorem q1620 : (Jvm.Cond.laysFinal "StiltTownModel" "StiltTownModel" "tokenName" "[J") ∈ lw_all := lw_g (lw_at lw_m7 22 rfl) rfl
theorem q1621 : (Jvm.Cond.soleField "StiltTownModel" "tokenName") ∈ lw_all := lw_g (lw_at lw_m7 23 rfl) rfl
theorem q1622 : (Jvm.Cond.lays "StiltTownModel" "StiltTownModel" "head" "I") ∈ lw_all := lw_g (lw_at lw_m7 24 rfl) rfl
theorem q1623 : (Jvm.Cond.soleField "StiltTownModel" "head") ∈ lw_all := lw_g (lw_at lw_m7 25 rfl) rfl
theorem q1624 : (Jvm.Cond.lays "StiltTownModel" "StiltTownModel" "fault" "I") ∈ lw_all := lw_g (lw_at lw_m7 26 rfl) rfl
theorem q1625 : (Jvm.Cond.soleField "StiltTownModel" "fault") ∈ lw_all := lw_g (lw_at lw_m7 27 rfl) rfl
theorem q1626 : (Jvm.Cond.lays "StiltTownModel" "StiltTownModel" "faultPlace" "I") ∈ lw_all := lw_g (lw_at lw_m7 28 rfl) rfl
theorem q1627 : (Jvm.Cond.soleField "StiltTownModel" "faultPlace") ∈ lw_all := lw_g (lw_at lw_m7 29 rfl) rfl
theorem q1628 : (Jvm.Cond.lays "StiltTownModel" "StiltTownModel" "worst" "I") ∈ lw_all := lw_g (lw_at lw_m7 30 rfl) rfl
theorem q1629 : (Jvm.Cond.soleField "StiltTownModel" "worst") ∈ lw_all := lw_g (lw_at lw_m7 31 rfl) rfl
theorem q1630 : (Jvm.Cond.lays "StiltTownModel" "StiltTownModel" "worstPlace" "I") ∈ lw_all := lw_g (lw_at lw_m7 32 rfl) rfl
theorem q1631 : (Jvm.Cond.soleField "StiltTownModel" "worstPlace") ∈ lw_all := lw_g (lw_at lw_m7 33 rfl) rfl
theorem q1632 : (Jvm.Cond.laysFinal "StiltTownModel" "StiltTownModel" "state" "[I") ∈ lw_all := lw_g (lw_at lw_m7 34 rfl) rfl
theorem q1633 : (Jvm.Cond.soleField "StiltTownModel" "state") ∈ lw_all := lw_g (lw_at lw_m7 35 rfl) rfl
theorem q1634 : (Jvm.Cond.laysFinal "StiltTownModel" "StiltTownModel" "live" "[I") ∈ lw_all := lw_g (lw_at lw_m7 36 rfl) rfl
theorem q1635 : (Jvm.Cond.soleField "StiltTownModel" "live") ∈ lw_all := lw_g (lw_at lw_m7 37 rfl) rfl
theorem q1636 : (Jvm.Cond.laysFinal "StiltTownModel" "StiltTownModel" "codes" "[I") ∈ lw_all := lw_g (lw_at lw_m7 38 rfl) rfl
theorem q1637 : (Jvm.Cond.soleField "StiltTownModel" "codes") ∈ lw_all := lw_g (lw_at lw_m7 39 rfl) rfl
theorem q1638 : (Jvm.Cond.laysFinal "StiltTownModel" "StiltTownModel" "codeOp" "[I") ∈ lw_all := lw_g (lw_at lw_m7 40 rfl) rfl
theorem q1639 : (Jvm.Cond.soleField "StiltTownModel" "codeOp") ∈ lw_all := lw_g (lw_at lw_m7 41 rfl) rfl
theorem q1640 : (Jvm.Cond.laysFinal "StiltTownModel" "StiltTownModel" "codeValue" "[I") ∈ lw_all := lw_g (lw_at lw_m7 42 rfl) rfl
theorem q1641 : (Jvm.Cond.soleField "StiltTownModel" "codeValue") ∈ lw_all := lw_g (lw_at lw_m7 43 rfl) rfl
theorem q1642 : (Jvm.Cond.laysFinal "StiltTownModel" "StiltTownModel" "lits" "[I") ∈ lw_all := lw_g (lw_at lw_m7 44 rfl) rfl
theorem q1643 : (Jvm.Cond.soleField "StiltTownModel" "lits") ∈ lw_all := lw_g (lw_at lw_m7 45 rfl) rfl
theorem q1644 : (Jvm.Cond.laysFinal "StiltTownModel" "StiltTownModel" "litNot" "[Z") ∈ lw_all := lw_g (lw_at lw_m7 46 rfl) rfl
theorem q1645 : (Jvm.Cond.soleField "StiltTownModel" "litNot") ∈ lw_all := lw_g (lw_at lw_m7 47 rfl) rfl
theorem q1646 : (Jvm.Cond.laysFinal "StiltTownModel" "StiltTownModel" "litOp" "[I") ∈ lw_all := lw_g (lw_at lw_m7 48 rfl) rfl
theorem q1647 : (Jvm.Cond.soleField "StiltTownModel" "litOp") ∈ lw_all := lw_g (lw_at lw_m7 49 rfl) rfl
theorem q1648 : (Jvm.Cond.laysFinal "StiltTownModel" "StiltTownModel" "litA" "[I") ∈ lw_all := lw_g (lw_at lw_m7 50 rfl) rfl
theorem q1649 : (Jvm.Cond.soleField "StiltTownModel" "litA") ∈ lw_all := lw_g (lw_at lw_m7 51 rfl) rfl
theorem q1650 : (Jvm.Cond.laysFinal "StiltTownModel" "StiltTownModel" "litB" "[I") ∈ lw_all := lw_g (lw_at lw_m7 52 rfl) rfl
theorem q1651 : (Jvm.Cond.soleField "StiltTownModel" "litB") ∈ lw_all := lw_g (lw_at lw_m7 53 rfl) rfl
theorem q1652 : (Jvm.Cond.laysFinal "StiltTownModel" "StiltTownModel" "litC" "[I") ∈ lw_all := lw_g (lw_at lw_m7 54 rfl) rfl
theorem q1653 : (Jvm.Cond.soleField "StiltTownModel" "litC") ∈ lw_all := lw_g (lw_at lw_m7 55 rfl) rfl
theorem q1654 : (Jvm.Cond.laysFinal "StiltTownModel" "StiltTownModel" "litRow" "[I") ∈ lw_all := lw_g (lw_at lw_m7 56 rfl) rfl
theorem q1655 : (Jvm.Cond.soleField "StiltTownModel" "litRow") ∈ lw_all := lw_g (lw_at lw_m7 57 rfl) rfl
theorem q1656 : (Jvm.Cond.laysFinal "StiltTownModel" "StiltTownModel" "isSlot" "[Z") ∈ lw_all := lw_g (lw_at lw_m7 58 rfl) rfl
theorem q1657 : (Jvm.Cond.soleField "StiltTownModel" "isSlot") ∈ lw_all := lw_g (lw_at lw_m7 59 rfl) rfl
theorem q1658 : (Jvm.Cond.lays "StiltTownModel" "StiltTownModel" "names" "I") ∈ lw_all := lw_g (lw_at lw_m7 60 rfl) rfl
theorem q1659 : (Jvm.Cond.soleField "StiltTownModel" "names") ∈ lw_all := lw_g (lw_at lw_m7 61 rfl) rfl
theorem q1660 : (Jvm.Cond.laysFinal "StiltTownModel" "StiltTownModel" "named" "[J") ∈ lw_all := lw_g (lw_at lw_m7 62 rfl) rfl
theorem q1661 : (Jvm.Cond.soleField "StiltTownModel" "named") ∈ lw_all := lw_g (lw_at lw_m7 63 rfl) rfl
theorem q1662 : (Jvm.Cond.laysFinal "StiltTownModel" "StiltTownModel" "namedSort" "[I") ∈ lw_all := lw_g (lw_at lw_m7 64 rfl) rfl
theorem q1663 : (Jvm.Cond.soleField "StiltTownModel" "namedSort") ∈ lw_all := lw_g (lw_at lw_m7 65 rfl) rfl
theorem q1664 : (Jvm.Cond.laysFinal "StiltTownModel" "StiltTownModel" "namedNumber" "[I") ∈ lw_all := lw_g (lw_at lw_m7 66 rfl) rfl
theorem q1665 : (Jvm.Cond.soleField "StiltTownModel" "namedNumber") ∈ lw_all := lw_g (lw_at lw_m7 67 rfl) rfl
theorem q1666 : (Jvm.Cond.lays "StiltTownModel" "StiltTownModel" "valued" "I") ∈ lw_all := lw_g (lw_at lw_m7 68 rfl) rfl
theorem q1667 : (Jvm.Cond.soleField "StiltTownModel" "valued") ∈ lw_all := lw_g (lw_at lw_m7 69 rfl) rfl
theorem q1668 : (Jvm.Cond.lays "StiltTownModel" "StiltTownModel" "waiting" "I") ∈ lw_all := lw_g (lw_at lw_m7 70 rfl) rfl
theorem q1669 : (Jvm.Cond.soleField "StiltTownModel" "waiting") ∈ lw_all := lw_g (lw_at lw_m7 71 rfl) rfl
theorem q1670 : (Jvm.Cond.laysFinal "StiltTownModel" "StiltTownModel" "waits" "[I") ∈ lw_all := lw_g (lw_at lw_m7 72 rfl) rfl
theorem q1671 : (Jvm.Cond.soleField "StiltTownModel" "waits") ∈ lw_all := lw_g (lw_at lw_m7 73 rfl) rfl
theorem q1672 : (Jvm.Cond.lays "StiltTownModel" "StiltTownModel" "exprFrom" "I") ∈ lw_all := lw_g (lw_at lw_m7 74 rfl) rfl
theorem q1673 : (Jvm.Cond.soleField "StiltTownModel" "exprFrom") ∈ lw_all := lw_g (lw_at lw_m7 75 rfl) rfl
theorem q1674 : (Jvm.Cond.lays "StiltTownModel" "StiltTownModel" "condFrom" "I") ∈ lw_all := lw_g (lw_at lw_m7 76 rfl) rfl
theorem q1675 : (Jvm.Cond.soleField "StiltTownModel" "condFrom") ∈ lw_all := lw_g (lw_at lw_m7 77 rfl) rfl
theorem q1676 : (Jvm.Cond.laysFinal "StiltTownModel" "StiltTownModel" "asked" "[I") ∈ lw_all := lw_g (lw_at lw_m7 78 rfl) rfl
theorem q1677 : (Jvm.Cond.soleField "StiltTownModel" "asked") ∈ lw_all := lw_g (lw_at lw_m7 79 rfl) rfl
theorem q1678 : (Jvm.Cond.lays "StiltTownModel" "StiltTownModel" "broken" "Z") ∈ lw_all := lw_g (lw_at lw_m7 80 rfl) rfl
theorem q1679 : (Jvm.Cond.soleField "StiltTownModel" "broken") ∈ lw_all := lw_g (lw_at lw_m7 81 rfl) rfl
theorem q1680 : (Jvm.Cond.laysFinal "StiltTownModel" "StiltTownModel" "stack" "[I") ∈ lw_all := lw_g (lw_at lw_m7 82 rfl) rfl
theorem q1681 : (Jvm.Cond.soleField "StiltTownModel" "stack") ∈ lw_all := lw_g (lw_at lw_m7 83 rfl) rfl
theorem q1682 : (Jvm.Cond.laysFinal "StiltTownModel" "StiltTownModel" "fewest" "[I") ∈ lw_all := lw_g (lw_at lw_m7 84 rfl) rfl
theorem q1683 : (Jvm.Cond.soleField "StiltTownModel" "fewest") ∈ lw_all := lw_g (lw_at lw_m7 85 rfl) rfl
theorem q1684 : (Jvm.Cond.laysFinal "StiltTownModel" "StiltTownModel" "taken" "[I") ∈ lw_all := lw_g (lw_at lw_m7 86 rfl) rfl
theorem q1685 : (Jvm.Cond.soleField "StiltTownModel" "taken") ∈ lw_all := lw_g (lw_at lw_m7 87 rfl) rfl
theorem q1686 : (Jvm.Cond.laysFinal "StiltTownModel" "StiltTownModel" "was" "[I") ∈ lw_all := lw_g (lw_at lw_m7 88 rfl) rfl
theorem q1687 : (Jvm.Cond.soleField "StiltTownModel" "was") ∈ lw_all := lw_g (lw_at lw_m7 89 rfl) rfl
theorem q1688 : (Jvm.Cond.lays "StiltTownModel" "StiltTownModel" "kept" "I") ∈ lw_all := lw_g (lw_at lw_m7 90 rfl) rfl
theorem q1689 : (Jvm.Cond.soleField "StiltTownModel" "kept") ∈ lw_all := lw_g (lw_at lw_m7 91 rfl) rfl
theorem q1690 : (Jvm.Cond.lays "StiltTownModel" "StiltTownModel" "pieces" "I") ∈ lw_all := lw_g (lw_at lw_m7 92 rfl) rfl
theorem q1691 : (Jvm.Cond.soleField "StiltTownModel" "pieces") ∈ lw_all := lw_g (lw_at lw_m7 93 rfl) rfl
theorem q1692 : (Jvm.Cond.lays "StiltTownModel" "StiltTownModel" "untrueMany" "I") ∈ lw_all := lw_g (lw_at lw_m7 94 rfl) rfl
theorem q1693 : (Jvm.Cond.soleField "StiltTownModel" "untrueMany") ∈ lw_all := lw_g (lw_at lw_m7 95 rfl) rfl
theorem q1694 : (Jvm.Cond.laysFinal "StiltTownModel" "StiltTownModel" "untrueHouse" "[I") ∈ lw_all := lw_g (lw_at lw_m7 96 rfl) rfl
theorem q1695 : (Jvm.Cond.soleField "StiltTownModel" "untrueHouse") ∈ lw_all := lw_g (lw_at lw_m7 97 rfl) rfl
theorem q1696 : (Jvm.Cond.laysFinal "StiltTownModel" "StiltTownModel" "dueHeight" "[I") ∈ lw_all := lw_g (lw_at lw_m7 98 rfl) rfl
theorem q1697 : (Jvm.Cond.soleField "StiltTownModel" "dueHeight") ∈ lw_all := lw_g (lw_at lw_m7 99 rfl) rfl
theorem q1698 : (Jvm.Cond.laysFinal "StiltTownModel" "StiltTownModel" "isSafe" "[Z") ∈ lw_all := lw_g (lw_at lw_m7 100 rfl) rfl
theorem q1699 : (Jvm.Cond.soleField "StiltTownModel" "isSafe") ∈ lw_all := lw_g (lw_at lw_m7 101 rfl) rfl
theorem q1700 : (Jvm.Cond.laysFinal "StiltTownModel" "StiltTownModel" "nightsFrom" "[I") ∈ lw_all := lw_g (lw_at lw_m7 102 rfl) rfl
theorem q1701 : (Jvm.Cond.soleField "StiltTownModel" "nightsFrom") ∈ lw_all := lw_g (lw_at lw_m7 103 rfl) rfl
theorem q1702 : (Jvm.Cond.laysFinal "StiltTownModel" "StiltTownModel" "fellIn" "[I") ∈ lw_all := lw_g (lw_at lw_m7 104 rfl) rfl
theorem q1703 : (Jvm.Cond.soleField "StiltTownModel" "fellIn") ∈ lw_all := lw_g (lw_at lw_m7 105 rfl) rfl
theorem q1704 : (Jvm.Cond.lays "StiltTownModel" "StiltTownModel" "fallen" "I") ∈ lw_all := lw_g (lw_at lw_m7 106 rfl) rfl
theorem q1705 : (Jvm.Cond.soleField "StiltTownModel" "fallen") ∈ lw_all := lw_g (lw_at lw_m7 107 rfl) rfl
theorem q1706 : (Jvm.Cond.lays "StiltTownModel" "StiltTownModel" "lastRound" "I") ∈ lw_all := lw_g (lw_at lw_m7 108 rfl) rfl
theorem q1707 : (Jvm.Cond.soleField "StiltTownModel" "lastRound") ∈ lw_all := lw_g (lw_at lw_m7 109 rfl) rfl
theorem q1708 : (Jvm.Cond.lays "StiltTownModel" "StiltTownModel" "years" "I") ∈ lw_all := lw_g (lw_at lw_m7 110 rfl) rfl
theorem q1709 : (Jvm.Cond.soleField "StiltTownModel" "years") ∈ lw_all := lw_g (lw_at lw_m7 111 rfl) rfl
theorem q1710 : (Jvm.Cond.laysFinal "StiltTownModel" "StiltTownModel" "yearDue" "[I") ∈ lw_all := lw_g (lw_at lw_m7 112 rfl) rfl
theorem q1711 : (Jvm.Cond.soleField "StiltTownModel" "yearDue") ∈ lw_all := lw_g (lw_at lw_m7 113 rfl) rfl
theorem q1712 : (Jvm.Cond.laysFinal "StiltTownModel" "StiltTownModel" "postCost" "[I") ∈ lw_all := lw_g (lw_at lw_m7 114 rfl) rfl
theorem q1713 : (Jvm.Cond.soleField "StiltTownModel" "postCost") ∈ lw_all := lw_g (lw_at lw_m7 115 rfl) rfl
theorem q1714 : (Jvm.Cond.superclass "StiltTownModel" "java/lang/Object") ∈ lw_all := lw_g (lw_at lw_m7 116 rfl) rfl
theorem q1716 : (Jvm.Cond.instanceMethod ({ cls := "StiltTownModel", name := "feed", desc := "(IIIII)I" } : Jvm.MethodName)) ∈ lw_all := lw_g (lw_at lw_m7 118 rfl) rfl
theorem q1717 : (Jvm.Cond.selects "StiltTownModel" ({ cls := "StiltTownModel", name := "feed", desc := "(IIIII)I" } : Jvm.MethodName) ({ cls := "StiltTownModel", name := "feed", desc := "(IIIII)I" } : Jvm.MethodName)) ∈ lw_all := lw_g (lw_at lw_m7 119 rfl) rfl
theorem q1718 : (Jvm.Cond.code ({ cls := "StiltTownModel", name := "feed", desc := "(IIIII)I" } : Jvm.MethodName) prog_23_method_2_code (6 : Nat) (Option.some Jvm.ClassFile.FieldType.int)) ∈ lw_all := lw_g (lw_at lw_m7 120 rfl) rfl
theorem q1719 : (Jvm.Cond.methodLink "StiltTownModel" (128 : Nat) ({ cls := "StiltTownModel", name := "typed", desc := "(I)V" } : Jvm.MethodName)) ∈ lw_all := lw_g (lw_at lw_m7 121 rfl) rfl
theorem q1720 : (Jvm.Cond.privateMethod ({ cls := "StiltTownModel", name := "typed", desc := "(I)V" } : Jvm.MethodName)) ∈ lw_tbl := lw_at lw_m7 122 rfl
theorem q1721 : (Jvm.Cond.instanceMethod ({ cls := "StiltTownModel", name := "typed", desc := "(I)V" } : Jvm.MethodName)) ∈ lw_all := lw_g (lw_at lw_m7 123 rfl) rfl
theorem q1722 : (Jvm.Cond.code ({ cls := "StiltTownModel", name := "typed", desc := "(I)V" } : Jvm.MethodName) prog_23_method_3_code (3 : Nat) (Option.none : Option Jvm.ClassFile.FieldType)) ∈ lw_all := lw_g (lw_at lw_m7 124 rfl) rfl
theorem q1724 : (Jvm.Cond.instanceMethod ({ cls := "StiltTownModel", name := "back", desc := "(I)I" } : Jvm.MethodName)) ∈ lw_all := lw_g (lw_at lw_m7 126 rfl) rfl
theorem q1725 : (Jvm.Cond.selects "StiltTownModel" ({ cls := "StiltTownModel", name := "back", desc := "(I)I" } : Jvm.MethodName) ({ cls := "StiltTownModel", name := "back", desc := "(I)I" } : Jvm.MethodName)) ∈ lw_all := lw_g (lw_at lw_m7 127 rfl) rfl
theorem q1726 : (Jvm.Cond.code ({ cls := "StiltTownModel", name := "back", desc := "(I)I" } : Jvm.MethodName) prog_23_method_4_code (2 : Nat) (Option.some Jvm.ClassFile.FieldType.int)) ∈ lw_all := lw_g (lw_at lw_m7 128 rfl) rfl
theorem q1728 : (Jvm.Cond.instanceMethod ({ cls := "StiltTownModel", name := "read", desc := "()I" } : Jvm.MethodName)) ∈ lw_all := lw_g (lw_at lw_m7 130 rfl) rfl
theorem q1729 : (Jvm.Cond.selects "StiltTownModel" ({ cls := "StiltTownModel", name := "read", desc := "()I" } : Jvm.MethodName) ({ cls := "StiltTownModel", name := "read", desc := "()I" } : Jvm.MethodName)) ∈ lw_all := lw_g (lw_at lw_m7 131 rfl) rfl
theorem q1730 : (Jvm.Cond.code ({ cls := "StiltTownModel", name := "read", desc := "()I" } : Jvm.MethodName) prog_23_method_46_code (1 : Nat) (Option.some Jvm.ClassFile.FieldType.int)) ∈ lw_all := lw_g (lw_at lw_m7 132 rfl) rfl
theorem q1731 : (Jvm.Cond.methodLink "StiltTownModel" (341 : Nat) ({ cls := "StiltTownModel", name := "scanAll", desc := "()V" } : Jvm.MethodName)) ∈ lw_all := lw_g (lw_at lw_m7 133 rfl) rfl
theorem q1732 : (Jvm.Cond.privateMethod ({ cls := "StiltTownModel", name := "scanAll", desc := "()V" } : Jvm.MethodName)) ∈ lw_tbl := lw_at lw_m7 134 rfl
theorem q1733 : (Jvm.Cond.instanceMethod ({ cls := "StiltTownModel", name := "scanAll", desc := "()V" } : Jvm.MethodName)) ∈ lw_all := lw_g (lw_at lw_m7 135 rfl) rfl
theorem q1734 : (Jvm.Cond.code ({ cls := "StiltTownModel", name := "scanAll", desc := "()V" } : Jvm.MethodName) prog_23_method_12_code (4 : Nat) (Option.none : Option Jvm.ClassFile.FieldType)) ∈ lw_all := lw_g (lw_at lw_m7 136 rfl) rfl
theorem q1735 : (Jvm.Cond.methodLink "StiltTownModel" (131 : Nat) ({ cls := "StiltTownModel", name := "byteAt", desc := "(I)I" } : Jvm.MethodName)) ∈ lw_all := lw_g (lw_at lw_m7 137 rfl) rfl
theorem q1736 : (Jvm.Cond.privateMethod ({ cls := "StiltTownModel", name := "byteAt", desc := "(I)I" } : Jvm.MethodName)) ∈ lw_tbl := lw_at lw_m7 138 rfl
theorem q1737 : (Jvm.Cond.instanceMethod ({ cls := "StiltTownModel", name := "byteAt", desc := "(I)I" } : Jvm.MethodName)) ∈ lw_all := lw_g (lw_at lw_m7 139 rfl) rfl
theorem q1738 : (Jvm.Cond.code ({ cls := "StiltTownModel", name := "byteAt", desc := "(I)I" } : Jvm.MethodName) prog_23_method_5_code (2 : Nat) (Option.some Jvm.ClassFile.FieldType.int)) ∈ lw_all := lw_g (lw_at lw_m7 140 rfl) rfl
theorem q1739 : (Jvm.Cond.methodLink "StiltTownModel" (212 : Nat) ({ cls := "StiltTownModel", name := "scan", desc := "(I)I" } : Jvm.MethodName)) ∈ lw_all := lw_g (lw_at lw_m7 141 rfl) rfl
theorem q1740 : (Jvm.Cond.privateMethod ({ cls := "StiltTownModel", name := "scan", desc := "(I)I" } : Jvm.MethodName)) ∈ lw_tbl := lw_at lw_m7 142 rfl
theorem q1741 : (Jvm.Cond.instanceMethod ({ cls := "StiltTownModel", name := "scan", desc := "(I)I" } : Jvm.MethodName)) ∈ lw_all := lw_g (lw_at lw_m7 143 rfl) rfl
theorem q1742 : (Jvm.Cond.code ({ cls := "StiltTownModel", name := "scan", desc := "(I)I" } : Jvm.MethodName) prog_23_method_11_code (6 : Nat) (Option.some Jvm.ClassFile.FieldType.int)) ∈ lw_all := lw_g (lw_at lw_m7 144 rfl) rfl
theorem q1743 : (Jvm.Cond.methodLink "StiltTownModel" (190 : Nat) ({ cls := "StiltTownModel", name := "isLetter", desc := "(I)Z" } : Jvm.MethodName)) ∈ lw_all := lw_g (lw_at lw_m7 145 rfl) rfl
theorem q1744 : (Jvm.Cond.privateMethod ({ cls := "StiltTownModel", name := "isLetter", desc := "(I)Z" } : Jvm.MethodName)) ∈ lw_tbl := lw_at lw_m7 146 rfl
theorem q1745 : (Jvm.Cond.instanceMethod ({ cls := "StiltTownModel", name := "isLetter", desc := "(I)Z" } : Jvm.MethodName)) ∈ lw_all := lw_g (lw_at lw_m7 147 rfl) rfl
theorem q1746 : (Jvm.Cond.code ({ cls := "StiltTownModel", name := "isLetter", desc := "(I)Z" } : Jvm.MethodName) prog_23_method_6_code (2 : Nat) (Option.some Jvm.ClassFile.FieldType.boolean)) ∈ lw_all := lw_g (lw_at lw_m7 148 rfl) rfl
theorem q1747 : (Jvm.Cond.constantLong "StiltTownModel" (194 : Nat) (27 : Int64)) ∈ lw_all := lw_g (lw_at lw_m7 149 rfl) rfl
theorem q1748 : (Jvm.Cond.constantLong "StiltTownModel" (196 : Nat) (96 : Int64)) ∈ lw_all := lw_g (lw_at lw_m7 150 rfl) rfl
theorem q1749 : (Jvm.Cond.methodLink "StiltTownModel" (198 : Nat) ({ cls := "StiltTownModel", name := "wordOf", desc := "(J)I" } : Jvm.MethodName)) ∈ lw_all := lw_g (lw_at lw_m7 151 rfl) rfl
theorem q1750 : (Jvm.Cond.static ({ cls := "StiltTownModel", name := "wordOf", desc := "(J)I" } : Jvm.MethodName)) ∈ lw_all := lw_g (lw_at lw_m7 152 rfl) rfl
theorem q1751 : (Jvm.Cond.code ({ cls := "StiltTownModel", name := "wordOf", desc := "(J)I" } : Jvm.MethodName) prog_23_method_9_code (2 : Nat) (Option.some Jvm.ClassFile.FieldType.int)) ∈ lw_all := lw_g (lw_at lw_m7 153 rfl) rfl
theorem q1752 : (Jvm.Cond.constantLong "StiltTownModel" (138 : Nat) (4562600 : Int64)) ∈ lw_all := lw_g (lw_at lw_m7 154 rfl) rfl
theorem q1753 : (Jvm.Cond.constantLong "StiltTownModel" (140 : Nat) (218546996 : Int64)) ∈ lw_all := lw_g (lw_at lw_m7 155 rfl) rfl
theorem q1754 : (Jvm.Cond.constantLong "StiltTownModel" (142 : Nat) (257 : Int64)) ∈ lw_all := lw_g (lw_at lw_m7 156 rfl) rfl
theorem q1755 : (Jvm.Cond.constantLong "StiltTownModel" (144 : Nat) (10492029 : Int64)) ∈ lw_all := lw_g (lw_at lw_m7 157 rfl) rfl
theorem q1756 : (Jvm.Cond.constantLong "StiltTownModel" (146 : Nat) (110319223 : Int64)) ∈ lw_all := lw_g (lw_at lw_m7 158 rfl) rfl
theorem q1757 : (Jvm.Cond.constantLong "StiltTownModel" (148 : Nat) (349972 : Int64)) ∈ lw_all := lw_g (lw_at lw_m7 159 rfl) rfl
theorem q1758 : (Jvm.Cond.constantLong "StiltTownModel" (150 : Nat) (464053 : Int64)) ∈ lw_all := lw_g (lw_at lw_m7 160 rfl) rfl
theorem q1759 : (Jvm.Cond.constantLong "StiltTownModel" (152 : Nat) (1952902 : Int64)) ∈ lw_all := lw_g (lw_at lw_m7 161 rfl) rfl
theorem q1760 : (Jvm.Cond.constantLong "StiltTownModel" (154 : Nat) (249 : Int64)) ∈ lw_all := lw_g (lw_at lw_m7 162 rfl) rfl
theorem q1761 : (Jvm.Cond.constantLong "StiltTownModel" (156 : Nat) (197651 : Int64)) ∈ lw_all := lw_g (lw_at lw_m7 163 rfl) rfl
theorem q1762 : (Jvm.Cond.constantLong "StiltTownModel" (158 : Nat) (10631 : Int64)) ∈ lw_all := lw_g (lw_at lw_m7 164 rfl) rfl
theorem q1763 : (Jvm.Cond.constantLong "StiltTownModel" (160 : Nat) (1111 : Int64)) ∈ lw_all := lw_g (lw_at lw_m7 165 rfl) rfl
theorem q1764 : (Jvm.Cond.constantLong "StiltTownModel" (162 : Nat) (423 : Int64)) ∈ lw_all := lw_g (lw_at lw_m7 166 rfl) rfl
theorem q1765 : (Jvm.Cond.constantLong "StiltTownModel" (164 : Nat) (117630947 : Int64)) ∈ lw_all := lw_g (lw_at lw_m7 167 rfl) rfl
theorem q1766 : (Jvm.Cond.constantLong "StiltTownModel" (166 : Nat) (355412 : Int64)) ∈ lw_all := lw_g (lw_at lw_m7 168 rfl) rfl
theorem q1767 : (Jvm.Cond.constantLong "StiltTownModel" (168 : Nat) (247162 : Int64)) ∈ lw_all := lw_g (lw_at lw_m7 169 rfl) rfl
theorem q1768 : (Jvm.Cond.constantLong "StiltTownModel" (170 : Nat) (24 : Int64)) ∈ lw_all := lw_g (lw_at lw_m7 170 rfl) rfl
theorem q1769 : (Jvm.Cond.constantLong "StiltTownModel" (172 : Nat) (168984 : Int64)) ∈ lw_all := lw_g (lw_at lw_m7 171 rfl) rfl
theorem q1770 : (Jvm.Cond.constantLong "StiltTownModel" (174 : Nat) (7214732 : Int64)) ∈ lw_all := lw_g (lw_at lw_m7 172 rfl) rfl
theorem q1771 : (Jvm.Cond.constantLong "StiltTownModel" (176 : Nat) (459652 : Int64)) ∈ lw_all := lw_g (lw_at lw_m7 173 rfl) rfl
theorem q1772 : (Jvm.Cond.constantLong "StiltTownModel" (178 : Nat) (149099 : Int64)) ∈ lw_all := lw_g (lw_at lw_m7 174 rfl) rfl
theorem q1773 : (Jvm.Cond.constantLong "StiltTownModel" (180 : Nat) (390796 : Int64)) ∈ lw_all := lw_g (lw_at lw_m7 175 rfl) rfl
theorem q1774 : (Jvm.Cond.constantLong "StiltTownModel" (182 : Nat) (400334 : Int64)) ∈ lw_all := lw_g (lw_at lw_m7 176 rfl) rfl
theorem q1775 : (Jvm.Cond.constantLong "StiltTownModel" (184 : Nat) (3488 : Int64)) ∈ lw_all := lw_g (lw_at lw_m7 177 rfl) rfl
theorem q1776 : (Jvm.Cond.constantLong "StiltTownModel" (186 : Nat) (3217420 : Int64)) ∈ lw_all := lw_g (lw_at lw_m7 178 rfl) rfl
theorem q1777 : (Jvm.Cond.constantLong "StiltTownModel" (188 : Nat) (1489 : Int64)) ∈ lw_all := lw_g (lw_at lw_m7 179 rfl) rfl
theorem q1778 : (Jvm.Cond.methodLink "StiltTownModel" (202 : Nat) ({ cls := "StiltTownModel", name := "token", desc := "(III)V" } : Jvm.MethodName)) ∈ lw_all := lw_g (lw_at lw_m7 180 rfl) rfl
theorem q1779 : (Jvm.Cond.privateMethod ({ cls := "StiltTownModel", name := "token", desc := "(III)V" } : Jvm.MethodName)) ∈ lw_tbl := lw_at lw_m7 181 rfl
theorem q1780 : (Jvm.Cond.instanceMethod ({ cls := "StiltTownModel", name := "token", desc := "(III)V" } : Jvm.MethodName)) ∈ lw_all := lw_g (lw_at lw_m7 182 rfl) rfl
theorem q1781 : (Jvm.Cond.code ({ cls := "StiltTownModel", name := "token", desc := "(III)V" } : Jvm.MethodName) prog_23_method_8_code (4 : Nat) (Option.none : Option Jvm.ClassFile.FieldType)) ∈ lw_all := lw_g (lw_at lw_m7 183 rfl) rfl
theorem q1782 : (Jvm.Cond.methodLink "StiltTownModel" (206 : Nat) ({ cls := "StiltTownModel", name := "isDigit", desc := "(I)Z" } : Jvm.MethodName)) ∈ lw_all := lw_g (lw_at lw_m7 184 rfl) rfl
theorem q1783 : (Jvm.Cond.privateMethod ({ cls := "StiltTownModel", name := "isDigit", desc := "(I)Z" } : Jvm.MethodName)) ∈ lw_tbl := lw_at lw_m7 185 rfl
theorem q1784 : (Jvm.Cond.instanceMethod ({ cls := "StiltTownModel", name := "isDigit", desc := "(I)Z" } : Jvm.MethodName)) ∈ lw_all := lw_g (lw_at lw_m7 186 rfl) rfl
theorem q1785 : (Jvm.Cond.code ({ cls := "StiltTownModel", name := "isDigit", desc := "(I)Z" } : Jvm.MethodName) prog_23_method_7_code (2 : Nat) (Option.some Jvm.ClassFile.FieldType.boolean)) ∈ lw_all := lw_g (lw_at lw_m7 187 rfl) rfl
theorem q1786 : (Jvm.Cond.methodLink "StiltTownModel" (209 : Nat) ({ cls := "StiltTownModel", name := "signAt", desc := "(I)I" } : Jvm.MethodName)) ∈ lw_all := lw_g (lw_at lw_m7 188 rfl) rfl
theorem q1787 : (Jvm.Cond.privateMethod ({ cls := "StiltTownModel", name := "signAt", desc := "(I)I" } : Jvm.MethodName)) ∈ lw_tbl := lw_at lw_m7 189 rfl
theorem q1788 : (Jvm.Cond.instanceMethod ({ cls := "StiltTownModel", name := "signAt", desc := "(I)I" } : Jvm.MethodName)) ∈ lw_all := lw_g (lw_at lw_m7 190 rfl) rfl
theorem q1789 : (Jvm.Cond.code ({ cls := "StiltTownModel", name := "signAt", desc := "(I)I" } : Jvm.MethodName) prog_23_method_10_code (4 : Nat) (Option.some Jvm.ClassFile.FieldType.int)) ∈ lw_all := lw_g (lw_at lw_m7 191 rfl) rfl
theorem q1790 : (Jvm.Cond.methodLink "StiltTownModel" (344 : Nat) ({ cls := "StiltTownModel", name := "parses", desc := "()Z" } : Jvm.MethodName)) ∈ lw_all := lw_g (lw_at lw_m7 192 rfl) rfl
theorem q1791 : (Jvm.Cond.privateMethod ({ cls := "StiltTownModel", name := "parses", desc := "()Z" } : Jvm.MethodName)) ∈ lw_tbl := lw_at lw_m7 193 rfl
theorem q1792 : (Jvm.Cond.instanceMethod ({ cls := "StiltTownModel", name := "parses", desc := "()Z" } : Jvm.MethodName)) ∈ lw_all := lw_g (lw_at lw_m7 194 rfl) rfl
theorem q1793 : (Jvm.Cond.code ({ cls := "StiltTownModel", name := "parses", desc := "()Z" } : Jvm.MethodName) prog_23_method_45_code (1 : Nat) (Option.some Jvm.ClassFile.FieldType.boolean)) ∈ lw_all := lw_g (lw_at lw_m7 195 rfl) rfl
theorem q1794 : (Jvm.Cond.methodLink "StiltTownModel" (338 : Nat) ({ cls := "StiltTownModel", name := "tellOne", desc := "()Z" } : Jvm.MethodName)) ∈ lw_all := lw_g (lw_at lw_m7 196 rfl) rfl
theorem q1795 : (Jvm.Cond.privateMethod ({ cls := "StiltTownModel", name := "tellOne", desc := "()Z" } : Jvm.MethodName)) ∈ lw_tbl := lw_at lw_m7 197 rfl
theorem q1796 : (Jvm.Cond.instanceMethod ({ cls := "StiltTownModel", name := "tellOne", desc := "()Z" } : Jvm.MethodName)) ∈ lw_all := lw_g (lw_at lw_m7 198 rfl) rfl
theorem q1797 : (Jvm.Cond.code ({ cls := "StiltTownModel", name := "tellOne", desc := "()Z" } : Jvm.MethodName) prog_23_method_44_code (2 : Nat) (Option.some Jvm.ClassFile.FieldType.boolean)) ∈ lw_all := lw_g (lw_at lw_m7 199 rfl) rfl
theorem q1798 : (Jvm.Cond.methodLink "StiltTownModel" (311 : Nat) ({ cls := "StiltTownModel", name := "tellHouse", desc := "()Z" } : Jvm.MethodName)) ∈ lw_all := lw_g (lw_at lw_m7 200 rfl) rfl
theorem q1799 : (Jvm.Cond.privateMethod ({ cls := "StiltTownModel", name := "tellHouse", desc := "()Z" } : Jvm.MethodName)) ∈ lw_tbl := lw_at lw_m7 201 rfl
theorem q1800 : (Jvm.Cond.instanceMethod ({ cls := "StiltTownModel", name := "tellHouse", desc := "()Z" } : Jvm.MethodName)) ∈ lw_all := lw_g (lw_at lw_m7 202 rfl) rfl
theorem q1801 : (Jvm.Cond.code ({ cls := "StiltTownModel", name := "tellHouse", desc := "()Z" } : Jvm.MethodName) prog_23_method_35_code (3 : Nat) (Option.some Jvm.ClassFile.FieldType.boolean)) ∈ lw_all := lw_g (lw_at lw_m7 203 rfl) rfl
theorem q1802 : (Jvm.Cond.methodLink "StiltTownModel" (289 : Nat) ({ cls := "StiltTownModel", name := "told", desc := "(I)I" } : Jvm.MethodName)) ∈ lw_all := lw_g (lw_at lw_m7 204 rfl) rfl
theorem q1803 : (Jvm.Cond.privateMethod ({ cls := "StiltTownModel", name := "told", desc := "(I)I" } : Jvm.MethodName)) ∈ lw_tbl := lw_at lw_m7 205 rfl
theorem q1804 : (Jvm.Cond.instanceMethod ({ cls := "StiltTownModel", name := "told", desc := "(I)I" } : Jvm.MethodName)) ∈ lw_all := lw_g (lw_at lw_m7 206 rfl) rfl
theorem q1805 : (Jvm.Cond.code ({ cls := "StiltTownModel", name := "told", desc := "(I)I" } : Jvm.MethodName) prog_23_method_27_code (2 : Nat) (Option.some Jvm.ClassFile.FieldType.int)) ∈ lw_all := lw_g (lw_at lw_m7 207 rfl) rfl
theorem q1806 : (Jvm.Cond.methodLink "StiltTownModel" (295 : Nat) ({ cls := "StiltTownModel", name := "next", desc := "(IIII)I" } : Jvm.MethodName)) ∈ lw_all := lw_g (lw_at lw_m7 208 rfl) rfl
theorem q1807 : (Jvm.Cond.privateMethod ({ cls := "StiltTownModel", name := "next", desc := "(IIII)I" } : Jvm.MethodName)) ∈ lw_tbl := lw_at lw_m7 209 rfl
theorem q1808 : (Jvm.Cond.instanceMethod ({ cls := "StiltTownModel", name := "next", desc := "(IIII)I" } : Jvm.MethodName)) ∈ lw_all := lw_g (lw_at lw_m7 210 rfl) rfl
theorem q1809 : (Jvm.Cond.code ({ cls := "StiltTownModel", name := "next", desc := "(IIII)I" } : Jvm.MethodName) prog_23_method_34_code (6 : Nat) (Option.some Jvm.ClassFile.FieldType.int)) ∈ lw_all := lw_g (lw_at lw_m7 211 rfl) rfl
theorem q1810 : (Jvm.Cond.methodLink "StiltTownModel" (292 : Nat) ({ cls := "StiltTownModel", name := "tell", desc := "(II)V" } : Jvm.MethodName)) ∈ lw_all := lw_g (lw_at lw_m7 212 rfl) rfl
theorem q1811 : (Jvm.Cond.privateMethod ({ cls := "StiltTownModel", name := "tell", desc := "(II)V" } : Jvm.MethodName)) ∈ lw_tbl := lw_at lw_m7 213 rfl
theorem q1812 : (Jvm.Cond.instanceMethod ({ cls := "StiltTownModel", name := "tell", desc := "(II)V" } : Jvm.MethodName)) ∈ lw_all := lw_g (lw_at lw_m7 214 rfl) rfl
theorem q1813 : (Jvm.Cond.code ({ cls := "StiltTownModel", name := "tell", desc := "(II)V" } : Jvm.MethodName) prog_23_method_28_code (3 : Nat) (Option.none : Option Jvm.ClassFile.FieldType)) ∈ lw_all := lw_g (lw_at lw_m7 215 rfl) rfl
theorem q1814 : (Jvm.Cond.methodLink "StiltTownModel" (227 : Nat) ({ cls := "StiltTownModel", name := "wrong", desc := "(I)Z" } : Jvm.MethodName)) ∈ lw_all := lw_g (lw_at lw_m7 216 rfl) rfl
theorem q1815 : (Jvm.Cond.privateMethod ({ cls := "StiltTownModel", name := "wrong", desc := "(I)Z" } : Jvm.MethodName)) ∈ lw_tbl := lw_at lw_m7 217 rfl
theorem q1816 : (Jvm.Cond.instanceMethod ({ cls := "StiltTownModel", name := "wrong", desc := "(I)Z" } : Jvm.MethodName)) ∈ lw_all := lw_g (lw_at lw_m7 218 rfl) rfl
theorem q1817 : (Jvm.Cond.code ({ cls := "StiltTownModel", name := "wrong", desc := "(I)Z" } : Jvm.MethodName) prog_23_method_13_code (2 : Nat) (Option.some Jvm.ClassFile.FieldType.boolean)) ∈ lw_all := lw_g (lw_at lw_m7 219 rfl) rfl
theorem q1818 : (Jvm.Cond.methodLink "StiltTownModel" (230 : Nat) ({ cls := "StiltTownModel", name := "pass", desc := "()Z" } : Jvm.MethodName)) ∈ lw_all := lw_g (lw_at lw_m7 220 rfl) rfl
theorem q1819 : (Jvm.Cond.privateMethod ({ cls := "StiltTownModel", name := "pass", desc := "()Z" } : Jvm.MethodName)) ∈ lw_tbl := lw_at lw_m7 221 rfl
theorem q1820 : (Jvm.Cond.instanceMethod ({ cls := "StiltTownModel", name := "pass", desc := "()Z" } : Jvm.MethodName)) ∈ lw_all := lw_g (lw_at lw_m7 222 rfl) rfl
theorem q1821 : (Jvm.Cond.code ({ cls := "StiltTownModel", name := "pass", desc := "()Z" } : Jvm.MethodName) prog_23_method_15_code (1 : Nat) (Option.some Jvm.ClassFile.FieldType.boolean)) ∈ lw_all := lw_g (lw_at lw_m7 223 rfl) rfl
theorem q1822 : (Jvm.Cond.methodLink "StiltTownModel" (299 : Nat) ({ cls := "StiltTownModel", name := "names", desc := "(II)Z" } : Jvm.MethodName)) ∈ lw_all := lw_g (lw_at lw_m7 224 rfl) rfl
theorem q1823 : (Jvm.Cond.privateMethod ({ cls := "StiltTownModel", name := "names", desc := "(II)Z" } : Jvm.MethodName)) ∈ lw_tbl := lw_at lw_m7 225 rfl
theorem q1824 : (Jvm.Cond.instanceMethod ({ cls := "StiltTownModel", name := "names", desc := "(II)Z" } : Jvm.MethodName)) ∈ lw_all := lw_g (lw_at lw_m7 226 rfl) rfl
theorem q1825 : (Jvm.Cond.code ({ cls := "StiltTownModel", name := "names", desc := "(II)Z" } : Jvm.MethodName) prog_23_method_32_code (5 : Nat) (Option.some Jvm.ClassFile.FieldType.boolean)) ∈ lw_all := lw_g (lw_at lw_m7 227 rfl) rfl
theorem q1826 : (Jvm.Cond.methodLink "StiltTownModel" (234 : Nat) ({ cls := "StiltTownModel", name := "takes", desc := "(I)Z" } : Jvm.MethodName)) ∈ lw_all := lw_g (lw_at lw_m7 228 rfl) rfl
theorem q1827 : (Jvm.Cond.privateMethod ({ cls := "StiltTownModel", name := "takes", desc := "(I)Z" } : Jvm.MethodName)) ∈ lw_tbl := lw_at lw_m7 229 rfl
theorem q1828 : (Jvm.Cond.instanceMethod ({ cls := "StiltTownModel", name := "takes", desc := "(I)Z" } : Jvm.MethodName)) ∈ lw_all := lw_g (lw_at lw_m7 230 rfl) rfl
theorem q1829 : (Jvm.Cond.code ({ cls := "StiltTownModel", name := "takes", desc := "(I)Z" } : Jvm.MethodName) prog_23_method_18_code (2 : Nat) (Option.some Jvm.ClassFile.FieldType.boolean)) ∈ lw_all := lw_g (lw_at lw_m7 231 rfl) rfl
theorem q1830 : (Jvm.Cond.methodLink "StiltTownModel" (240 : Nat) ({ cls := "StiltTownModel", name := "tells", desc := "(II)V" } : Jvm.MethodName)) ∈ lw_all := lw_g (lw_at lw_m7 232 rfl) rfl
theorem q1831 : (Jvm.Cond.privateMethod ({ cls := "StiltTownModel", name := "tells", desc := "(II)V" } : Jvm.MethodName)) ∈ lw_tbl := lw_at lw_m7 233 rfl
theorem q1832 : (Jvm.Cond.instanceMethod ({ cls := "StiltTownModel", name := "tells", desc := "(II)V" } : Jvm.MethodName)) ∈ lw_all := lw_g (lw_at lw_m7 234 rfl) rfl
theorem q1833 : (Jvm.Cond.code ({ cls := "StiltTownModel", name := "tells", desc := "(II)V" } : Jvm.MethodName) prog_23_method_14_code (4 : Nat) (Option.none : Option Jvm.ClassFile.FieldType)) ∈ lw_all := lw_g (lw_at lw_m7 235 rfl) rfl
theorem q1834 : (Jvm.Cond.methodLink "StiltTownModel" (302 : Nat) ({ cls := "StiltTownModel", name := "takesInt", desc := "(II)Z" } : Jvm.MethodName)) ∈ lw_all := lw_g (lw_at lw_m7 236 rfl) rfl
theorem q1835 : (Jvm.Cond.privateMethod ({ cls := "StiltTownModel", name := "takesInt", desc := "(II)Z" } : Jvm.MethodName)) ∈ lw_tbl := lw_at lw_m7 237 rfl
theorem q1836 : (Jvm.Cond.instanceMethod ({ cls := "StiltTownModel", name := "takesInt", desc := "(II)Z" } : Jvm.MethodName)) ∈ lw_all := lw_g (lw_at lw_m7 238 rfl) rfl
theorem q1837 : (Jvm.Cond.code ({ cls := "StiltTownModel", name := "takesInt", desc := "(II)Z" } : Jvm.MethodName) prog_23_method_19_code (4 : Nat) (Option.some Jvm.ClassFile.FieldType.boolean)) ∈ lw_all := lw_g (lw_at lw_m7 239 rfl) rfl
theorem q1838 : (Jvm.Cond.methodLink "StiltTownModel" (314 : Nat) ({ cls := "StiltTownModel", name := "tellOffice", desc := "()Z" } : Jvm.MethodName)) ∈ lw_all := lw_g (lw_at lw_m8 0 rfl) rfl
theorem q1839 : (Jvm.Cond.privateMethod ({ cls := "StiltTownModel", name := "tellOffice", desc := "()Z" } : Jvm.MethodName)) ∈ lw_tbl := lw_at lw_m8 1 rfl
theorem q1840 : (Jvm.Cond.instanceMethod ({ cls := "StiltTownModel", name := "tellOffice", desc := "()Z" } : Jvm.MethodName)) ∈ lw_all := lw_g (lw_at lw_m8 2 rfl) rfl
theorem q1841 : (Jvm.Cond.code ({ cls := "StiltTownModel", name := "tellOffice", desc := "()Z" } : Jvm.MethodName) prog_23_method_36_code (3 : Nat) (Option.some Jvm.ClassFile.FieldType.boolean)) ∈ lw_all := lw_g (lw_at lw_m8 3 rfl) rfl
theorem q1842 : (Jvm.Cond.methodLink "StiltTownModel" (317 : Nat) ({ cls := "StiltTownModel", name := "tellIn", desc := "()Z" } : Jvm.MethodName)) ∈ lw_all := lw_g (lw_at lw_m8 4 rfl) rfl
theorem q1843 : (Jvm.Cond.privateMethod ({ cls := "StiltTownModel", name := "tellIn", desc := "()Z" } : Jvm.MethodName)) ∈ lw_tbl := lw_at lw_m8 5 rfl
theorem q1844 : (Jvm.Cond.instanceMethod ({ cls := "StiltTownModel", name := "tellIn", desc := "()Z" } : Jvm.MethodName)) ∈ lw_all := lw_g (lw_at lw_m8 6 rfl) rfl
theorem q1845 : (Jvm.Cond.code ({ cls := "StiltTownModel", name := "tellIn", desc := "()Z" } : Jvm.MethodName) prog_23_method_37_code (2 : Nat) (Option.some Jvm.ClassFile.FieldType.boolean)) ∈ lw_all := lw_g (lw_at lw_m8 7 rfl) rfl
theorem q1846 : (Jvm.Cond.methodLink "StiltTownModel" (305 : Nat) ({ cls := "StiltTownModel", name := "takesName", desc := "(I)Z" } : Jvm.MethodName)) ∈ lw_all := lw_g (lw_at lw_m8 8 rfl) rfl
theorem q1847 : (Jvm.Cond.privateMethod ({ cls := "StiltTownModel", name := "takesName", desc := "(I)Z" } : Jvm.MethodName)) ∈ lw_tbl := lw_at lw_m8 9 rfl
theorem q1848 : (Jvm.Cond.instanceMethod ({ cls := "StiltTownModel", name := "takesName", desc := "(I)Z" } : Jvm.MethodName)) ∈ lw_all := lw_g (lw_at lw_m8 10 rfl) rfl
theorem q1849 : (Jvm.Cond.code ({ cls := "StiltTownModel", name := "takesName", desc := "(I)Z" } : Jvm.MethodName) prog_23_method_33_code (4 : Nat) (Option.some Jvm.ClassFile.FieldType.boolean)) ∈ lw_all := lw_g (lw_at lw_m8 11 rfl) rfl
theorem q1850 : (Jvm.Cond.methodLink "StiltTownModel" (320 : Nat) ({ cls := "StiltTownModel", name := "tellStair", desc := "()Z" } : Jvm.MethodName)) ∈ lw_all := lw_g (lw_at lw_m8 12 rfl) rfl
theorem q1851 : (Jvm.Cond.privateMethod ({ cls := "StiltTownModel", name := "tellStair", desc := "()Z" } : Jvm.MethodName)) ∈ lw_tbl := lw_at lw_m8 13 rfl
theorem q1852 : (Jvm.Cond.instanceMethod ({ cls := "StiltTownModel", name := "tellStair", desc := "()Z" } : Jvm.MethodName)) ∈ lw_all := lw_g (lw_at lw_m8 14 rfl) rfl
theorem q1853 : (Jvm.Cond.code ({ cls := "StiltTownModel", name := "tellStair", desc := "()Z" } : Jvm.MethodName) prog_23_method_38_code (3 : Nat) (Option.some Jvm.ClassFile.FieldType.boolean)) ∈ lw_all := lw_g (lw_at lw_m8 15 rfl) rfl
theorem q1854 : (Jvm.Cond.methodLink "StiltTownModel" (271 : Nat) ({ cls := "StiltTownModel", name := "isWord", desc := "(I)Z" } : Jvm.MethodName)) ∈ lw_all := lw_g (lw_at lw_m8 16 rfl) rfl
theorem q1855 : (Jvm.Cond.privateMethod ({ cls := "StiltTownModel", name := "isWord", desc := "(I)Z" } : Jvm.MethodName)) ∈ lw_tbl := lw_at lw_m8 17 rfl
theorem q1856 : (Jvm.Cond.instanceMethod ({ cls := "StiltTownModel", name := "isWord", desc := "(I)Z" } : Jvm.MethodName)) ∈ lw_all := lw_g (lw_at lw_m8 18 rfl) rfl
theorem q1857 : (Jvm.Cond.code ({ cls := "StiltTownModel", name := "isWord", desc := "(I)Z" } : Jvm.MethodName) prog_23_method_17_code (2 : Nat) (Option.some Jvm.ClassFile.FieldType.boolean)) ∈ lw_all := lw_g (lw_at lw_m8 19 rfl) rfl
theorem q1858 : (Jvm.Cond.methodLink "StiltTownModel" (323 : Nat) ({ cls := "StiltTownModel", name := "tellQuay", desc := "()Z" } : Jvm.MethodName)) ∈ lw_all := lw_g (lw_at lw_m8 20 rfl) rfl
theorem q1859 : (Jvm.Cond.privateMethod ({ cls := "StiltTownModel", name := "tellQuay", desc := "()Z" } : Jvm.MethodName)) ∈ lw_tbl := lw_at lw_m8 21 rfl
theorem q1860 : (Jvm.Cond.instanceMethod ({ cls := "StiltTownModel", name := "tellQuay", desc := "()Z" } : Jvm.MethodName)) ∈ lw_all := lw_g (lw_at lw_m8 22 rfl) rfl
theorem q1861 : (Jvm.Cond.code ({ cls := "StiltTownModel", name := "tellQuay", desc := "()Z" } : Jvm.MethodName) prog_23_method_39_code (2 : Nat) (Option.some Jvm.ClassFile.FieldType.boolean)) ∈ lw_all := lw_g (lw_at lw_m8 23 rfl) rfl
theorem q1862 : (Jvm.Cond.methodLink "StiltTownModel" (326 : Nat) ({ cls := "StiltTownModel", name := "tellWood", desc := "()Z" } : Jvm.MethodName)) ∈ lw_all := lw_g (lw_at lw_m8 24 rfl) rfl
theorem q1863 : (Jvm.Cond.privateMethod ({ cls := "StiltTownModel", name := "tellWood", desc := "()Z" } : Jvm.MethodName)) ∈ lw_tbl := lw_at lw_m8 25 rfl
theorem q1864 : (Jvm.Cond.instanceMethod ({ cls := "StiltTownModel", name := "tellWood", desc := "()Z" } : Jvm.MethodName)) ∈ lw_all := lw_g (lw_at lw_m8 26 rfl) rfl
theorem q1865 : (Jvm.Cond.code ({ cls := "StiltTownModel", name := "tellWood", desc := "()Z" } : Jvm.MethodName) prog_23_method_40_code (2 : Nat) (Option.some Jvm.ClassFile.FieldType.boolean)) ∈ lw_all := lw_g (lw_at lw_m8 27 rfl) rfl
theorem q1866 : (Jvm.Cond.methodLink "StiltTownModel" (329 : Nat) ({ cls := "StiltTownModel", name := "tellNumber", desc := "(II)Z" } : Jvm.MethodName)) ∈ lw_all := lw_g (lw_at lw_m8 28 rfl) rfl
theorem q1867 : (Jvm.Cond.privateMethod ({ cls := "StiltTownModel", name := "tellNumber", desc := "(II)Z" } : Jvm.MethodName)) ∈ lw_tbl := lw_at lw_m8 29 rfl
theorem q1868 : (Jvm.Cond.instanceMethod ({ cls := "StiltTownModel", name := "tellNumber", desc := "(II)Z" } : Jvm.MethodName)) ∈ lw_all := lw_g (lw_at lw_m8 30 rfl) rfl
theorem q1869 : (Jvm.Cond.code ({ cls := "StiltTownModel", name := "tellNumber", desc := "(II)Z" } : Jvm.MethodName) prog_23_method_41_code (3 : Nat) (Option.some Jvm.ClassFile.FieldType.boolean)) ∈ lw_all := lw_g (lw_at lw_m8 31 rfl) rfl
theorem q1870 : (Jvm.Cond.methodLink "StiltTownModel" (332 : Nat) ({ cls := "StiltTownModel", name := "tellLaw", desc := "(I)Z" } : Jvm.MethodName)) ∈ lw_all := lw_g (lw_at lw_m8 32 rfl) rfl
theorem q1871 : (Jvm.Cond.privateMethod ({ cls := "StiltTownModel", name := "tellLaw", desc := "(I)Z" } : Jvm.MethodName)) ∈ lw_tbl := lw_at lw_m8 33 rfl
theorem q1872 : (Jvm.Cond.instanceMethod ({ cls := "StiltTownModel", name := "tellLaw", desc := "(I)Z" } : Jvm.MethodName)) ∈ lw_all := lw_g (lw_at lw_m8 34 rfl) rfl
theorem q1873 : (Jvm.Cond.code ({ cls := "StiltTownModel", name := "tellLaw", desc := "(I)Z" } : Jvm.MethodName) prog_23_method_42_code (2 : Nat) (Option.some Jvm.ClassFile.FieldType.boolean)) ∈ lw_all := lw_g (lw_at lw_m8 35 rfl) rfl
theorem q1874 : (Jvm.Cond.methodLink "StiltTownModel" (256 : Nat) ({ cls := "StiltTownModel", name := "isSign", desc := "(I)Z" } : Jvm.MethodName)) ∈ lw_all := lw_g (lw_at lw_m8 36 rfl) rfl
theorem q1875 : (Jvm.Cond.privateMethod ({ cls := "StiltTownModel", name := "isSign", desc := "(I)Z" } : Jvm.MethodName)) ∈ lw_tbl := lw_at lw_m8 37 rfl
theorem q1876 : (Jvm.Cond.instanceMethod ({ cls := "StiltTownModel", name := "isSign", desc := "(I)Z" } : Jvm.MethodName)) ∈ lw_all := lw_g (lw_at lw_m8 38 rfl) rfl
theorem q1877 : (Jvm.Cond.code ({ cls := "StiltTownModel", name := "isSign", desc := "(I)Z" } : Jvm.MethodName) prog_23_method_16_code (2 : Nat) (Option.some Jvm.ClassFile.FieldType.boolean)) ∈ lw_all := lw_g (lw_at lw_m8 39 rfl) rfl
theorem q1878 : (Jvm.Cond.methodLink "StiltTownModel" (274 : Nat) ({ cls := "StiltTownModel", name := "expr", desc := "()Z" } : Jvm.MethodName)) ∈ lw_all := lw_g (lw_at lw_m8 40 rfl) rfl
theorem q1879 : (Jvm.Cond.privateMethod ({ cls := "StiltTownModel", name := "expr", desc := "()Z" } : Jvm.MethodName)) ∈ lw_tbl := lw_at lw_m8 41 rfl
theorem q1880 : (Jvm.Cond.instanceMethod ({ cls := "StiltTownModel", name := "expr", desc := "()Z" } : Jvm.MethodName)) ∈ lw_all := lw_g (lw_at lw_m8 42 rfl) rfl
theorem q1881 : (Jvm.Cond.code ({ cls := "StiltTownModel", name := "expr", desc := "()Z" } : Jvm.MethodName) prog_23_method_25_code (5 : Nat) (Option.some Jvm.ClassFile.FieldType.boolean)) ∈ lw_all := lw_g (lw_at lw_m8 43 rfl) rfl
theorem q1882 : (Jvm.Cond.methodLink "StiltTownModel" (259 : Nat) ({ cls := "StiltTownModel", name := "await", desc := "(I)V" } : Jvm.MethodName)) ∈ lw_all := lw_g (lw_at lw_m8 44 rfl) rfl
theorem q1883 : (Jvm.Cond.privateMethod ({ cls := "StiltTownModel", name := "await", desc := "(I)V" } : Jvm.MethodName)) ∈ lw_tbl := lw_at lw_m8 45 rfl
theorem q1884 : (Jvm.Cond.instanceMethod ({ cls := "StiltTownModel", name := "await", desc := "(I)V" } : Jvm.MethodName)) ∈ lw_all := lw_g (lw_at lw_m8 46 rfl) rfl
theorem q1885 : (Jvm.Cond.code ({ cls := "StiltTownModel", name := "await", desc := "(I)V" } : Jvm.MethodName) prog_23_method_23_code (2 : Nat) (Option.none : Option Jvm.ClassFile.FieldType)) ∈ lw_all := lw_g (lw_at lw_m8 47 rfl) rfl
theorem q1886 : (Jvm.Cond.methodLink "StiltTownModel" (262 : Nat) ({ cls := "StiltTownModel", name := "variableOf", desc := "(I)I" } : Jvm.MethodName)) ∈ lw_all := lw_g (lw_at lw_m8 48 rfl) rfl
theorem q1887 : (Jvm.Cond.static ({ cls := "StiltTownModel", name := "variableOf", desc := "(I)I" } : Jvm.MethodName)) ∈ lw_all := lw_g (lw_at lw_m8 49 rfl) rfl
theorem q1888 : (Jvm.Cond.code ({ cls := "StiltTownModel", name := "variableOf", desc := "(I)I" } : Jvm.MethodName) prog_23_method_24_code (1 : Nat) (Option.some Jvm.ClassFile.FieldType.int)) ∈ lw_all := lw_g (lw_at lw_m8 50 rfl) rfl
theorem q1889 : (Jvm.Cond.methodLink "StiltTownModel" (250 : Nat) ({ cls := "StiltTownModel", name := "emit", desc := "(II)V" } : Jvm.MethodName)) ∈ lw_all := lw_g (lw_at lw_m8 51 rfl) rfl
theorem q1890 : (Jvm.Cond.privateMethod ({ cls := "StiltTownModel", name := "emit", desc := "(II)V" } : Jvm.MethodName)) ∈ lw_tbl := lw_at lw_m8 52 rfl
theorem q1891 : (Jvm.Cond.instanceMethod ({ cls := "StiltTownModel", name := "emit", desc := "(II)V" } : Jvm.MethodName)) ∈ lw_all := lw_g (lw_at lw_m8 53 rfl) rfl
theorem q1892 : (Jvm.Cond.code ({ cls := "StiltTownModel", name := "emit", desc := "(II)V" } : Jvm.MethodName) prog_23_method_20_code (3 : Nat) (Option.none : Option Jvm.ClassFile.FieldType)) ∈ lw_all := lw_g (lw_at lw_m8 54 rfl) rfl
theorem q1893 : (Jvm.Cond.methodLink "StiltTownModel" (265 : Nat) ({ cls := "StiltTownModel", name := "reduce", desc := "(II)V" } : Jvm.MethodName)) ∈ lw_all := lw_g (lw_at lw_m8 55 rfl) rfl
theorem q1894 : (Jvm.Cond.privateMethod ({ cls := "StiltTownModel", name := "reduce", desc := "(II)V" } : Jvm.MethodName)) ∈ lw_tbl := lw_at lw_m8 56 rfl
theorem q1895 : (Jvm.Cond.instanceMethod ({ cls := "StiltTownModel", name := "reduce", desc := "(II)V" } : Jvm.MethodName)) ∈ lw_all := lw_g (lw_at lw_m8 57 rfl) rfl
theorem q1896 : (Jvm.Cond.code ({ cls := "StiltTownModel", name := "reduce", desc := "(II)V" } : Jvm.MethodName) prog_23_method_22_code (3 : Nat) (Option.none : Option Jvm.ClassFile.FieldType)) ∈ lw_all := lw_g (lw_at lw_m8 58 rfl) rfl
theorem q1897 : (Jvm.Cond.methodLink "StiltTownModel" (247 : Nat) ({ cls := "StiltTownModel", name := "rank", desc := "(I)I" } : Jvm.MethodName)) ∈ lw_all := lw_g (lw_at lw_m8 59 rfl) rfl
theorem q1898 : (Jvm.Cond.static ({ cls := "StiltTownModel", name := "rank", desc := "(I)I" } : Jvm.MethodName)) ∈ lw_all := lw_g (lw_at lw_m8 60 rfl) rfl
theorem q1899 : (Jvm.Cond.code ({ cls := "StiltTownModel", name := "rank", desc := "(I)I" } : Jvm.MethodName) prog_23_method_21_code (1 : Nat) (Option.some Jvm.ClassFile.FieldType.int)) ∈ lw_all := lw_g (lw_at lw_m8 61 rfl) rfl
theorem q1900 : (Jvm.Cond.methodLink "StiltTownModel" (335 : Nat) ({ cls := "StiltTownModel", name := "tellRule", desc := "(II)Z" } : Jvm.MethodName)) ∈ lw_all := lw_g (lw_at lw_m8 62 rfl) rfl
theorem q1901 : (Jvm.Cond.privateMethod ({ cls := "StiltTownModel", name := "tellRule", desc := "(II)Z" } : Jvm.MethodName)) ∈ lw_tbl := lw_at lw_m8 63 rfl
theorem q1902 : (Jvm.Cond.instanceMethod ({ cls := "StiltTownModel", name := "tellRule", desc := "(II)Z" } : Jvm.MethodName)) ∈ lw_all := lw_g (lw_at lw_m8 64 rfl) rfl
theorem q1903 : (Jvm.Cond.code ({ cls := "StiltTownModel", name := "tellRule", desc := "(II)Z" } : Jvm.MethodName) prog_23_method_43_code (4 : Nat) (Option.some Jvm.ClassFile.FieldType.boolean)) ∈ lw_all := lw_g (lw_at lw_m8 65 rfl) rfl
theorem q1904 : (Jvm.Cond.methodLink "StiltTownModel" (308 : Nat) ({ cls := "StiltTownModel", name := "cond", desc := "()Z" } : Jvm.MethodName)) ∈ lw_all := lw_g (lw_at lw_m8 66 rfl) rfl
theorem q1905 : (Jvm.Cond.privateMethod ({ cls := "StiltTownModel", name := "cond", desc := "()Z" } : Jvm.MethodName)) ∈ lw_tbl := lw_at lw_m8 67 rfl
theorem q1906 : (Jvm.Cond.instanceMethod ({ cls := "StiltTownModel", name := "cond", desc := "()Z" } : Jvm.MethodName)) ∈ lw_all := lw_g (lw_at lw_m8 68 rfl) rfl
theorem q1907 : (Jvm.Cond.code ({ cls := "StiltTownModel", name := "cond", desc := "()Z" } : Jvm.MethodName) prog_23_method_26_code (6 : Nat) (Option.some Jvm.ClassFile.FieldType.boolean)) ∈ lw_all := lw_g (lw_at lw_m8 69 rfl) rfl
theorem q1908 : (Jvm.Cond.methodLink "StiltTownModel" (347 : Nat) ({ cls := "StiltTownModel", name := "takesHold", desc := "()V" } : Jvm.MethodName)) ∈ lw_all := lw_g (lw_at lw_m8 70 rfl) rfl
theorem q1909 : (Jvm.Cond.privateMethod ({ cls := "StiltTownModel", name := "takesHold", desc := "()V" } : Jvm.MethodName)) ∈ lw_tbl := lw_at lw_m8 71 rfl
theorem q1910 : (Jvm.Cond.instanceMethod ({ cls := "StiltTownModel", name := "takesHold", desc := "()V" } : Jvm.MethodName)) ∈ lw_all := lw_g (lw_at lw_m8 72 rfl) rfl
theorem q1911 : (Jvm.Cond.code ({ cls := "StiltTownModel", name := "takesHold", desc := "()V" } : Jvm.MethodName) prog_23_method_30_code (2 : Nat) (Option.none : Option Jvm.ClassFile.FieldType)) ∈ lw_all := lw_g (lw_at lw_m8 73 rfl) rfl
theorem q1913 : (Jvm.Cond.instanceMethod ({ cls := "StiltTownModel", name := "place", desc := "()I" } : Jvm.MethodName)) ∈ lw_all := lw_g (lw_at lw_m8 75 rfl) rfl
theorem q1914 : (Jvm.Cond.selects "StiltTownModel" ({ cls := "StiltTownModel", name := "place", desc := "()I" } : Jvm.MethodName) ({ cls := "StiltTownModel", name := "place", desc := "()I" } : Jvm.MethodName)) ∈ lw_all := lw_g (lw_at lw_m8 76 rfl) rfl
theorem q1915 : (Jvm.Cond.code ({ cls := "StiltTownModel", name := "place", desc := "()I" } : Jvm.MethodName) prog_23_method_47_code (1 : Nat) (Option.some Jvm.ClassFile.FieldType.int)) ∈ lw_all := lw_g (lw_at lw_m8 77 rfl) rfl
theorem q1917 : (Jvm.Cond.instanceMethod ({ cls := "StiltTownModel", name := "house", desc := "(II)I" } : Jvm.MethodName)) ∈ lw_all := lw_g (lw_at lw_m8 79 rfl) rfl
theorem q1918 : (Jvm.Cond.selects "StiltTownModel" ({ cls := "StiltTownModel", name := "house", desc := "(II)I" } : Jvm.MethodName) ({ cls := "StiltTownModel", name := "house", desc := "(II)I" } : Jvm.MethodName)) ∈ lw_all := lw_g (lw_at lw_m8 80 rfl) rfl
theorem q1919 : (Jvm.Cond.code ({ cls := "StiltTownModel", name := "house", desc := "(II)I" } : Jvm.MethodName) prog_23_method_61_code (3 : Nat) (Option.some Jvm.ClassFile.FieldType.int)) ∈ lw_all := lw_g (lw_at lw_m8 81 rfl) rfl
theorem q1920 : (Jvm.Cond.methodLink "StiltTownModel" (377 : Nat) ({ cls := "StiltTownModel", name := "isHouse", desc := "(I)Z" } : Jvm.MethodName)) ∈ lw_all := lw_g (lw_at lw_m8 82 rfl) rfl
theorem q1921 : (Jvm.Cond.privateMethod ({ cls := "StiltTownModel", name := "isHouse", desc := "(I)Z" } : Jvm.MethodName)) ∈ lw_tbl := lw_at lw_m8 83 rfl
theorem q1922 : (Jvm.Cond.instanceMethod ({ cls := "StiltTownModel", name := "isHouse", desc := "(I)Z" } : Jvm.MethodName)) ∈ lw_all := lw_g (lw_at lw_m8 84 rfl) rfl
theorem q1923 : (Jvm.Cond.code ({ cls := "StiltTownModel", name := "isHouse", desc := "(I)Z" } : Jvm.MethodName) prog_23_method_55_code (2 : Nat) (Option.some Jvm.ClassFile.FieldType.boolean)) ∈ lw_all := lw_g (lw_at lw_m8 85 rfl) rfl
theorem q1924 : (Jvm.Cond.methodLink "StiltTownModel" (371 : Nat) ({ cls := "StiltTownModel", name := "xOf", desc := "(I)I" } : Jvm.MethodName)) ∈ lw_all := lw_g (lw_at lw_m8 86 rfl) rfl
theorem q1925 : (Jvm.Cond.privateMethod ({ cls := "StiltTownModel", name := "xOf", desc := "(I)I" } : Jvm.MethodName)) ∈ lw_tbl := lw_at lw_m8 87 rfl
theorem q1926 : (Jvm.Cond.instanceMethod ({ cls := "StiltTownModel", name := "xOf", desc := "(I)I" } : Jvm.MethodName)) ∈ lw_all := lw_g (lw_at lw_m8 88 rfl) rfl
theorem q1927 : (Jvm.Cond.code ({ cls := "StiltTownModel", name := "xOf", desc := "(I)I" } : Jvm.MethodName) prog_23_method_57_code (2 : Nat) (Option.some Jvm.ClassFile.FieldType.int)) ∈ lw_all := lw_g (lw_at lw_m8 89 rfl) rfl
theorem q1928 : (Jvm.Cond.methodLink "StiltTownModel" (380 : Nat) ({ cls := "StiltTownModel", name := "heightOf", desc := "(I)I" } : Jvm.MethodName)) ∈ lw_all := lw_g (lw_at lw_m8 90 rfl) rfl
theorem q1929 : (Jvm.Cond.privateMethod ({ cls := "StiltTownModel", name := "heightOf", desc := "(I)I" } : Jvm.MethodName)) ∈ lw_tbl := lw_at lw_m8 91 rfl
theorem q1930 : (Jvm.Cond.instanceMethod ({ cls := "StiltTownModel", name := "heightOf", desc := "(I)I" } : Jvm.MethodName)) ∈ lw_all := lw_g (lw_at lw_m8 92 rfl) rfl
theorem q1931 : (Jvm.Cond.code ({ cls := "StiltTownModel", name := "heightOf", desc := "(I)I" } : Jvm.MethodName) prog_23_method_58_code (2 : Nat) (Option.some Jvm.ClassFile.FieldType.int)) ∈ lw_all := lw_g (lw_at lw_m8 93 rfl) rfl
theorem q1932 : (Jvm.Cond.methodLink "StiltTownModel" (368 : Nat) ({ cls := "StiltTownModel", name := "rankOf", desc := "(I)I" } : Jvm.MethodName)) ∈ lw_all := lw_g (lw_at lw_m8 94 rfl) rfl
theorem q1933 : (Jvm.Cond.privateMethod ({ cls := "StiltTownModel", name := "rankOf", desc := "(I)I" } : Jvm.MethodName)) ∈ lw_tbl := lw_at lw_m8 95 rfl
theorem q1934 : (Jvm.Cond.instanceMethod ({ cls := "StiltTownModel", name := "rankOf", desc := "(I)I" } : Jvm.MethodName)) ∈ lw_all := lw_g (lw_at lw_m8 96 rfl) rfl
theorem q1935 : (Jvm.Cond.code ({ cls := "StiltTownModel", name := "rankOf", desc := "(I)I" } : Jvm.MethodName) prog_23_method_59_code (3 : Nat) (Option.some Jvm.ClassFile.FieldType.int)) ∈ lw_all := lw_g (lw_at lw_m8 97 rfl) rfl
theorem q1936 : (Jvm.Cond.methodLink "StiltTownModel" (383 : Nat) ({ cls := "StiltTownModel", name := "dueOf", desc := "(I)I" } : Jvm.MethodName)) ∈ lw_all := lw_g (lw_at lw_m8 98 rfl) rfl
theorem q1937 : (Jvm.Cond.privateMethod ({ cls := "StiltTownModel", name := "dueOf", desc := "(I)I" } : Jvm.MethodName)) ∈ lw_tbl := lw_at lw_m8 99 rfl
theorem q1938 : (Jvm.Cond.instanceMethod ({ cls := "StiltTownModel", name := "dueOf", desc := "(I)I" } : Jvm.MethodName)) ∈ lw_all := lw_g (lw_at lw_m8 100 rfl) rfl
theorem q1939 : (Jvm.Cond.code ({ cls := "StiltTownModel", name := "dueOf", desc := "(I)I" } : Jvm.MethodName) prog_23_method_60_code (2 : Nat) (Option.some Jvm.ClassFile.FieldType.int)) ∈ lw_all := lw_g (lw_at lw_m8 101 rfl) rfl
theorem q1940 : (Jvm.Cond.methodLink "StiltTownModel" (365 : Nat) ({ cls := "StiltTownModel", name := "askNone", desc := "()V" } : Jvm.MethodName)) ∈ lw_all := lw_g (lw_at lw_m8 102 rfl) rfl
theorem q1941 : (Jvm.Cond.privateMethod ({ cls := "StiltTownModel", name := "askNone", desc := "()V" } : Jvm.MethodName)) ∈ lw_tbl := lw_at lw_m8 103 rfl
theorem q1942 : (Jvm.Cond.instanceMethod ({ cls := "StiltTownModel", name := "askNone", desc := "()V" } : Jvm.MethodName)) ∈ lw_all := lw_g (lw_at lw_m8 104 rfl) rfl
theorem q1943 : (Jvm.Cond.code ({ cls := "StiltTownModel", name := "askNone", desc := "()V" } : Jvm.MethodName) prog_23_method_53_code (2 : Nat) (Option.none : Option Jvm.ClassFile.FieldType)) ∈ lw_all := lw_g (lw_at lw_m8 105 rfl) rfl
theorem q1944 : (Jvm.Cond.methodLink "StiltTownModel" (374 : Nat) ({ cls := "StiltTownModel", name := "says", desc := "(II)I" } : Jvm.MethodName)) ∈ lw_all := lw_g (lw_at lw_m8 106 rfl) rfl
theorem q1945 : (Jvm.Cond.privateMethod ({ cls := "StiltTownModel", name := "says", desc := "(II)I" } : Jvm.MethodName)) ∈ lw_tbl := lw_at lw_m8 107 rfl
theorem q1946 : (Jvm.Cond.instanceMethod ({ cls := "StiltTownModel", name := "says", desc := "(II)I" } : Jvm.MethodName)) ∈ lw_all := lw_g (lw_at lw_m8 108 rfl) rfl
theorem q1947 : (Jvm.Cond.code ({ cls := "StiltTownModel", name := "says", desc := "(II)I" } : Jvm.MethodName) prog_23_method_52_code (3 : Nat) (Option.some Jvm.ClassFile.FieldType.int)) ∈ lw_all := lw_g (lw_at lw_m8 109 rfl) rfl
theorem q1948 : (Jvm.Cond.methodLink "StiltTownModel" (354 : Nat) ({ cls := "StiltTownModel", name := "sum", desc := "(II)I" } : Jvm.MethodName)) ∈ lw_all := lw_g (lw_at lw_m8 110 rfl) rfl
theorem q1949 : (Jvm.Cond.privateMethod ({ cls := "StiltTownModel", name := "sum", desc := "(II)I" } : Jvm.MethodName)) ∈ lw_tbl := lw_at lw_m8 111 rfl
theorem q1950 : (Jvm.Cond.instanceMethod ({ cls := "StiltTownModel", name := "sum", desc := "(II)I" } : Jvm.MethodName)) ∈ lw_all := lw_g (lw_at lw_m8 112 rfl) rfl
theorem q1951 : (Jvm.Cond.code ({ cls := "StiltTownModel", name := "sum", desc := "(II)I" } : Jvm.MethodName) prog_23_method_48_code (8 : Nat) (Option.some Jvm.ClassFile.FieldType.int)) ∈ lw_all := lw_g (lw_at lw_m8 113 rfl) rfl
theorem q1952 : (Jvm.Cond.methodLink "StiltTownModel" (361 : Nat) ({ cls := "StiltTownModel", name := "within", desc := "(III)I" } : Jvm.MethodName)) ∈ lw_all := lw_g (lw_at lw_m8 114 rfl) rfl
theorem q1953 : (Jvm.Cond.static ({ cls := "StiltTownModel", name := "within", desc := "(III)I" } : Jvm.MethodName)) ∈ lw_all := lw_g (lw_at lw_m8 115 rfl) rfl
theorem q1954 : (Jvm.Cond.code ({ cls := "StiltTownModel", name := "within", desc := "(III)I" } : Jvm.MethodName) prog_23_method_51_code (3 : Nat) (Option.some Jvm.ClassFile.FieldType.int)) ∈ lw_all := lw_g (lw_at lw_m8 116 rfl) rfl
theorem q1956 : (Jvm.Cond.instanceMethod ({ cls := "StiltTownModel", name := "give", desc := "(II)Z" } : Jvm.MethodName)) ∈ lw_all := lw_g (lw_at lw_m8 118 rfl) rfl
theorem q1957 : (Jvm.Cond.selects "StiltTownModel" ({ cls := "StiltTownModel", name := "give", desc := "(II)Z" } : Jvm.MethodName) ({ cls := "StiltTownModel", name := "give", desc := "(II)Z" } : Jvm.MethodName)) ∈ lw_all := lw_g (lw_at lw_m8 119 rfl) rfl
theorem q1958 : (Jvm.Cond.code ({ cls := "StiltTownModel", name := "give", desc := "(II)Z" } : Jvm.MethodName) prog_23_method_64_code (3 : Nat) (Option.some Jvm.ClassFile.FieldType.boolean)) ∈ lw_all := lw_g (lw_at lw_m8 120 rfl) rfl
theorem q1959 : (Jvm.Cond.methodLink "StiltTownModel" (389 : Nat) ({ cls := "StiltTownModel", name := "isOffice", desc := "(I)Z" } : Jvm.MethodName)) ∈ lw_all := lw_g (lw_at lw_m8 121 rfl) rfl
theorem q1960 : (Jvm.Cond.privateMethod ({ cls := "StiltTownModel", name := "isOffice", desc := "(I)Z" } : Jvm.MethodName)) ∈ lw_tbl := lw_at lw_m8 122 rfl
theorem q1961 : (Jvm.Cond.instanceMethod ({ cls := "StiltTownModel", name := "isOffice", desc := "(I)Z" } : Jvm.MethodName)) ∈ lw_all := lw_g (lw_at lw_m8 123 rfl) rfl
theorem q1962 : (Jvm.Cond.code ({ cls := "StiltTownModel", name := "isOffice", desc := "(I)Z" } : Jvm.MethodName) prog_23_method_56_code (2 : Nat) (Option.some Jvm.ClassFile.FieldType.boolean)) ∈ lw_all := lw_g (lw_at lw_m8 124 rfl) rfl
theorem q1964 : (Jvm.Cond.instanceMethod ({ cls := "StiltTownModel", name := "holder", desc := "(I)I" } : Jvm.MethodName)) ∈ lw_all := lw_g (lw_at lw_m8 126 rfl) rfl
theorem q1965 : (Jvm.Cond.selects "StiltTownModel" ({ cls := "StiltTownModel", name := "holder", desc := "(I)I" } : Jvm.MethodName) ({ cls := "StiltTownModel", name := "holder", desc := "(I)I" } : Jvm.MethodName)) ∈ lw_all := lw_g (lw_at lw_m8 127 rfl) rfl
theorem q1966 : (Jvm.Cond.code ({ cls := "StiltTownModel", name := "holder", desc := "(I)I" } : Jvm.MethodName) prog_23_method_65_code (2 : Nat) (Option.some Jvm.ClassFile.FieldType.int)) ∈ lw_all := lw_g (lw_at lw_m8 128 rfl) rfl
theorem q1968 : (Jvm.Cond.instanceMethod ({ cls := "StiltTownModel", name := "months", desc := "(I)I" } : Jvm.MethodName)) ∈ lw_all := lw_g (lw_at lw_m8 130 rfl) rfl
theorem q1969 : (Jvm.Cond.selects "StiltTownModel" ({ cls := "StiltTownModel", name := "months", desc := "(I)I" } : Jvm.MethodName) ({ cls := "StiltTownModel", name := "months", desc := "(I)I" } : Jvm.MethodName)) ∈ lw_all := lw_g (lw_at lw_m8 131 rfl) rfl
theorem q1970 : (Jvm.Cond.code ({ cls := "StiltTownModel", name := "months", desc := "(I)I" } : Jvm.MethodName) prog_23_method_66_code (2 : Nat) (Option.some Jvm.ClassFile.FieldType.int)) ∈ lw_all := lw_g (lw_at lw_m8 132 rfl) rfl
theorem q1971 : (Jvm.Cond.methodLink "StiltTownModel" (392 : Nat) ({ cls := "StiltTownModel", name := "isIn", desc := "(III)Z" } : Jvm.MethodName)) ∈ lw_all := lw_g (lw_at lw_m8 133 rfl) rfl
theorem q1972 : (Jvm.Cond.static ({ cls := "StiltTownModel", name := "isIn", desc := "(III)Z" } : Jvm.MethodName)) ∈ lw_all := lw_g (lw_at lw_m8 134 rfl) rfl
theorem q1973 : (Jvm.Cond.code ({ cls := "StiltTownModel", name := "isIn", desc := "(III)Z" } : Jvm.MethodName) prog_23_method_54_code (3 : Nat) (Option.some Jvm.ClassFile.FieldType.boolean)) ∈ lw_all := lw_g (lw_at lw_m8 135 rfl) rfl
theorem q1975 : (Jvm.Cond.instanceMethod ({ cls := "StiltTownModel", name := "tide", desc := "(I)I" } : Jvm.MethodName)) ∈ lw_all := lw_g (lw_at lw_m8 137 rfl) rfl
theorem q1976 : (Jvm.Cond.selects "StiltTownModel" ({ cls := "StiltTownModel", name := "tide", desc := "(I)I" } : Jvm.MethodName) ({ cls := "StiltTownModel", name := "tide", desc := "(I)I" } : Jvm.MethodName)) ∈ lw_all := lw_g (lw_at lw_m8 138 rfl) rfl
theorem q1977 : (Jvm.Cond.code ({ cls := "StiltTownModel", name := "tide", desc := "(I)I" } : Jvm.MethodName) prog_23_method_69_code (2 : Nat) (Option.some Jvm.ClassFile.FieldType.int)) ∈ lw_all := lw_g (lw_at lw_m8 139 rfl) rfl
theorem q1978 : (Jvm.Cond.methodLink "StiltTownModel" (396 : Nat) ({ cls := "StiltTownModel", name := "isHour", desc := "(I)Z" } : Jvm.MethodName)) ∈ lw_all := lw_g (lw_at lw_m8 140 rfl) rfl
theorem q1979 : (Jvm.Cond.static ({ cls := "StiltTownModel", name := "isHour", desc := "(I)Z" } : Jvm.MethodName)) ∈ lw_all := lw_g (lw_at lw_m8 141 rfl) rfl
theorem q1980 : (Jvm.Cond.code ({ cls := "StiltTownModel", name := "isHour", desc := "(I)Z" } : Jvm.MethodName) prog_23_method_68_code (1 : Nat) (Option.some Jvm.ClassFile.FieldType.boolean)) ∈ lw_all := lw_g (lw_at lw_m8 142 rfl) rfl
theorem q1981 : (Jvm.Cond.methodLink "StiltTownModel" (399 : Nat) ({ cls := "StiltTownModel", name := "tideOf", desc := "(I)I" } : Jvm.MethodName)) ∈ lw_all := lw_g (lw_at lw_m8 143 rfl) rfl
theorem q1982 : (Jvm.Cond.privateMethod ({ cls := "StiltTownModel", name := "tideOf", desc := "(I)I" } : Jvm.MethodName)) ∈ lw_tbl := lw_at lw_m8 144 rfl
theorem q1983 : (Jvm.Cond.instanceMethod ({ cls := "StiltTownModel", name := "tideOf", desc := "(I)I" } : Jvm.MethodName)) ∈ lw_all := lw_g (lw_at lw_m8 145 rfl) rfl
theorem q1984 : (Jvm.Cond.code ({ cls := "StiltTownModel", name := "tideOf", desc := "(I)I" } : Jvm.MethodName) prog_23_method_67_code (2 : Nat) (Option.some Jvm.ClassFile.FieldType.int)) ∈ lw_all := lw_g (lw_at lw_m8 146 rfl) rfl
theorem q1986 : (Jvm.Cond.instanceMethod ({ cls := "StiltTownModel", name := "wet", desc := "(I)I" } : Jvm.MethodName)) ∈ lw_all := lw_g (lw_at lw_m8 148 rfl) rfl
theorem q1987 : (Jvm.Cond.selects "StiltTownModel" ({ cls := "StiltTownModel", name := "wet", desc := "(I)I" } : Jvm.MethodName) ({ cls := "StiltTownModel", name := "wet", desc := "(I)I" } : Jvm.MethodName)) ∈ lw_all := lw_g (lw_at lw_m8 149 rfl) rfl
theorem q1988 : (Jvm.Cond.code ({ cls := "StiltTownModel", name := "wet", desc := "(I)I" } : Jvm.MethodName) prog_23_method_70_code (5 : Nat) (Option.some Jvm.ClassFile.FieldType.int)) ∈ lw_all := lw_g (lw_at lw_m8 150 rfl) rfl
theorem q1990 : (Jvm.Cond.instanceMethod ({ cls := "StiltTownModel", name := "reached", desc := "(I)I" } : Jvm.MethodName)) ∈ lw_all := lw_g (lw_at lw_m8 152 rfl) rfl
theorem q1991 : (Jvm.Cond.selects "StiltTownModel" ({ cls := "StiltTownModel", name := "reached", desc := "(I)I" } : Jvm.MethodName) ({ cls := "StiltTownModel", name := "reached", desc := "(I)I" } : Jvm.MethodName)) ∈ lw_all := lw_g (lw_at lw_m8 153 rfl) rfl
theorem q1992 : (Jvm.Cond.code ({ cls := "StiltTownModel", name := "reached", desc := "(I)I" } : Jvm.MethodName) prog_23_method_74_code (2 : Nat) (Option.some Jvm.ClassFile.FieldType.int)) ∈ lw_all := lw_g (lw_at lw_m8 154 rfl) rfl
theorem q1993 : (Jvm.Cond.methodLink "StiltTownModel" (405 : Nat) ({ cls := "StiltTownModel", name := "reachedAt", desc := "(III)I" } : Jvm.MethodName)) ∈ lw_all := lw_g (lw_at lw_m8 155 rfl) rfl
theorem q1994 : (Jvm.Cond.privateMethod ({ cls := "StiltTownModel", name := "reachedAt", desc := "(III)I" } : Jvm.MethodName)) ∈ lw_tbl := lw_at lw_m8 156 rfl
theorem q1995 : (Jvm.Cond.instanceMethod ({ cls := "StiltTownModel", name := "reachedAt", desc := "(III)I" } : Jvm.MethodName)) ∈ lw_all := lw_g (lw_at lw_m8 157 rfl) rfl
theorem q1996 : (Jvm.Cond.code ({ cls := "StiltTownModel", name := "reachedAt", desc := "(III)I" } : Jvm.MethodName) prog_23_method_72_code (13 : Nat) (Option.some Jvm.ClassFile.FieldType.int)) ∈ lw_all := lw_g (lw_at lw_m8 158 rfl) rfl
theorem q1997 : (Jvm.Cond.methodLink "StiltTownModel" (402 : Nat) ({ cls := "StiltTownModel", name := "isMeeting", desc := "(I)Z" } : Jvm.MethodName)) ∈ lw_all := lw_g (lw_at lw_m8 159 rfl) rfl
theorem q1998 : (Jvm.Cond.privateMethod ({ cls := "StiltTownModel", name := "isMeeting", desc := "(I)Z" } : Jvm.MethodName)) ∈ lw_tbl := lw_at lw_m8 160 rfl
theorem q1999 : (Jvm.Cond.instanceMethod ({ cls := "StiltTownModel", name := "isMeeting", desc := "(I)Z" } : Jvm.MethodName)) ∈ lw_all := lw_g (lw_at lw_m8 161 rfl) rfl
theorem q2000 : (Jvm.Cond.code ({ cls := "StiltTownModel", name := "isMeeting", desc := "(I)Z" } : Jvm.MethodName) prog_23_method_71_code (5 : Nat) (Option.some Jvm.ClassFile.FieldType.boolean)) ∈ lw_all := lw_g (lw_at lw_m8 162 rfl) rfl
theorem q2002 : (Jvm.Cond.instanceMethod ({ cls := "StiltTownModel", name := "hours", desc := "(I)I" } : Jvm.MethodName)) ∈ lw_all := lw_g (lw_at lw_m8 164 rfl) rfl
theorem q2003 : (Jvm.Cond.selects "StiltTownModel" ({ cls := "StiltTownModel", name := "hours", desc := "(I)I" } : Jvm.MethodName) ({ cls := "StiltTownModel", name := "hours", desc := "(I)I" } : Jvm.MethodName)) ∈ lw_all := lw_g (lw_at lw_m8 165 rfl) rfl
theorem q2004 : (Jvm.Cond.code ({ cls := "StiltTownModel", name := "hours", desc := "(I)I" } : Jvm.MethodName) prog_23_method_75_code (4 : Nat) (Option.some Jvm.ClassFile.FieldType.int)) ∈ lw_all := lw_g (lw_at lw_m8 166 rfl) rfl
theorem q2006 : (Jvm.Cond.instanceMethod ({ cls := "StiltTownModel", name := "meets", desc := "(I)I" } : Jvm.MethodName)) ∈ lw_all := lw_g (lw_at lw_m8 168 rfl) rfl
theorem q2007 : (Jvm.Cond.selects "StiltTownModel" ({ cls := "StiltTownModel", name := "meets", desc := "(I)I" } : Jvm.MethodName) ({ cls := "StiltTownModel", name := "meets", desc := "(I)I" } : Jvm.MethodName)) ∈ lw_all := lw_g (lw_at lw_m8 169 rfl) rfl
theorem q2008 : (Jvm.Cond.code ({ cls := "StiltTownModel", name := "meets", desc := "(I)I" } : Jvm.MethodName) prog_23_method_76_code (2 : Nat) (Option.some Jvm.ClassFile.FieldType.int)) ∈ lw_all := lw_g (lw_at lw_m8 170 rfl) rfl
theorem q2010 : (Jvm.Cond.instanceMethod ({ cls := "StiltTownModel", name := "cut", desc := "(IZI)I" } : Jvm.MethodName)) ∈ lw_all := lw_g (lw_at lw_m8 172 rfl) rfl
theorem q2011 : (Jvm.Cond.selects "StiltTownModel" ({ cls := "StiltTownModel", name := "cut", desc := "(IZI)I" } : Jvm.MethodName) ({ cls := "StiltTownModel", name := "cut", desc := "(IZI)I" } : Jvm.MethodName)) ∈ lw_all := lw_g (lw_at lw_m8 173 rfl) rfl
theorem q2012 : (Jvm.Cond.code ({ cls := "StiltTownModel", name := "cut", desc := "(IZI)I" } : Jvm.MethodName) prog_23_method_79_code (4 : Nat) (Option.some Jvm.ClassFile.FieldType.int)) ∈ lw_all := lw_g (lw_at lw_m8 174 rfl) rfl
theorem q2013 : (Jvm.Cond.methodLink "StiltTownModel" (411 : Nat) ({ cls := "StiltTownModel", name := "manyOf", desc := "(Z)I" } : Jvm.MethodName)) ∈ lw_all := lw_g (lw_at lw_m8 175 rfl) rfl
theorem q2014 : (Jvm.Cond.privateMethod ({ cls := "StiltTownModel", name := "manyOf", desc := "(Z)I" } : Jvm.MethodName)) ∈ lw_tbl := lw_at lw_m8 176 rfl
theorem q2015 : (Jvm.Cond.instanceMethod ({ cls := "StiltTownModel", name := "manyOf", desc := "(Z)I" } : Jvm.MethodName)) ∈ lw_all := lw_g (lw_at lw_m8 177 rfl) rfl
theorem q2016 : (Jvm.Cond.code ({ cls := "StiltTownModel", name := "manyOf", desc := "(Z)I" } : Jvm.MethodName) prog_23_method_78_code (2 : Nat) (Option.some Jvm.ClassFile.FieldType.int)) ∈ lw_all := lw_g (lw_at lw_m8 178 rfl) rfl
theorem q2017 : (Jvm.Cond.methodLink "StiltTownModel" (415 : Nat) ({ cls := "StiltTownModel", name := "cutOf", desc := "(IZI)I" } : Jvm.MethodName)) ∈ lw_all := lw_g (lw_at lw_m8 179 rfl) rfl
theorem q2018 : (Jvm.Cond.privateMethod ({ cls := "StiltTownModel", name := "cutOf", desc := "(IZI)I" } : Jvm.MethodName)) ∈ lw_tbl := lw_at lw_m8 180 rfl
theorem q2019 : (Jvm.Cond.instanceMethod ({ cls := "StiltTownModel", name := "cutOf", desc := "(IZI)I" } : Jvm.MethodName)) ∈ lw_all := lw_g (lw_at lw_m8 181 rfl) rfl
theorem q2020 : (Jvm.Cond.code ({ cls := "StiltTownModel", name := "cutOf", desc := "(IZI)I" } : Jvm.MethodName) prog_23_method_77_code (6 : Nat) (Option.some Jvm.ClassFile.FieldType.int)) ∈ lw_all := lw_g (lw_at lw_m8 182 rfl) rfl
theorem q2021 : (Jvm.Cond.methodLink "StiltTownModel" (408 : Nat) ({ cls := "StiltTownModel", name := "bitsOf", desc := "(I)I" } : Jvm.MethodName)) ∈ lw_all := lw_g (lw_at lw_m8 183 rfl) rfl
theorem q2022 : (Jvm.Cond.static ({ cls := "StiltTownModel", name := "bitsOf", desc := "(I)I" } : Jvm.MethodName)) ∈ lw_all := lw_g (lw_at lw_m8 184 rfl) rfl
theorem q2023 : (Jvm.Cond.code ({ cls := "StiltTownModel", name := "bitsOf", desc := "(I)I" } : Jvm.MethodName) prog_23_method_73_code (3 : Nat) (Option.some Jvm.ClassFile.FieldType.int)) ∈ lw_all := lw_g (lw_at lw_m8 185 rfl) rfl
theorem q2025 : (Jvm.Cond.instanceMethod ({ cls := "StiltTownModel", name := "worst", desc := "(ZI)I" } : Jvm.MethodName)) ∈ lw_all := lw_g (lw_at lw_m8 187 rfl) rfl
theorem q2026 : (Jvm.Cond.selects "StiltTownModel" ({ cls := "StiltTownModel", name := "worst", desc := "(ZI)I" } : Jvm.MethodName) ({ cls := "StiltTownModel", name := "worst", desc := "(ZI)I" } : Jvm.MethodName)) ∈ lw_all := lw_g (lw_at lw_m8 188 rfl) rfl
theorem q2027 : (Jvm.Cond.code ({ cls := "StiltTownModel", name := "worst", desc := "(ZI)I" } : Jvm.MethodName) prog_23_method_80_code (7 : Nat) (Option.some Jvm.ClassFile.FieldType.int)) ∈ lw_all := lw_g (lw_at lw_m8 189 rfl) rfl
theorem q2029 : (Jvm.Cond.instanceMethod ({ cls := "StiltTownModel", name := "law", desc := "(I)I" } : Jvm.MethodName)) ∈ lw_all := lw_g (lw_at lw_m8 191 rfl) rfl
theorem q2030 : (Jvm.Cond.selects "StiltTownModel" ({ cls := "StiltTownModel", name := "law", desc := "(I)I" } : Jvm.MethodName) ({ cls := "StiltTownModel", name := "law", desc := "(I)I" } : Jvm.MethodName)) ∈ lw_all := lw_g (lw_at lw_m8 192 rfl) rfl
theorem q2031 : (Jvm.Cond.code ({ cls := "StiltTownModel", name := "law", desc := "(I)I" } : Jvm.MethodName) prog_23_method_87_code (4 : Nat) (Option.some Jvm.ClassFile.FieldType.int)) ∈ lw_all := lw_g (lw_at lw_m8 193 rfl) rfl
theorem q2032 : (Jvm.Cond.methodLink "StiltTownModel" (431 : Nat) ({ cls := "StiltTownModel", name := "turned", desc := "()I" } : Jvm.MethodName)) ∈ lw_all := lw_g (lw_at lw_m8 194 rfl) rfl
theorem q2033 : (Jvm.Cond.privateMethod ({ cls := "StiltTownModel", name := "turned", desc := "()I" } : Jvm.MethodName)) ∈ lw_tbl := lw_at lw_m8 195 rfl
theorem q2034 : (Jvm.Cond.instanceMethod ({ cls := "StiltTownModel", name := "turned", desc := "()I" } : Jvm.MethodName)) ∈ lw_all := lw_g (lw_at lw_m8 196 rfl) rfl
theorem q2035 : (Jvm.Cond.code ({ cls := "StiltTownModel", name := "turned", desc := "()I" } : Jvm.MethodName) prog_23_method_86_code (4 : Nat) (Option.some Jvm.ClassFile.FieldType.int)) ∈ lw_all := lw_g (lw_at lw_m8 197 rfl) rfl
theorem q2036 : (Jvm.Cond.methodLink "StiltTownModel" (435 : Nat) ({ cls := "StiltTownModel", name := "untrue", desc := "()I" } : Jvm.MethodName)) ∈ lw_all := lw_g (lw_at lw_m8 198 rfl) rfl
theorem q2037 : (Jvm.Cond.privateMethod ({ cls := "StiltTownModel", name := "untrue", desc := "()I" } : Jvm.MethodName)) ∈ lw_tbl := lw_at lw_m8 199 rfl
theorem q2038 : (Jvm.Cond.instanceMethod ({ cls := "StiltTownModel", name := "untrue", desc := "()I" } : Jvm.MethodName)) ∈ lw_all := lw_g (lw_at lw_m8 200 rfl) rfl
theorem q2039 : (Jvm.Cond.code ({ cls := "StiltTownModel", name := "untrue", desc := "()I" } : Jvm.MethodName) prog_23_method_85_code (3 : Nat) (Option.some Jvm.ClassFile.FieldType.int)) ∈ lw_all := lw_g (lw_at lw_m8 201 rfl) rfl
theorem q2040 : (Jvm.Cond.methodLink "StiltTownModel" (438 : Nat) ({ cls := "StiltTownModel", name := "isBad", desc := "(I)Z" } : Jvm.MethodName)) ∈ lw_all := lw_g (lw_at lw_m8 202 rfl) rfl
theorem q2041 : (Jvm.Cond.privateMethod ({ cls := "StiltTownModel", name := "isBad", desc := "(I)Z" } : Jvm.MethodName)) ∈ lw_tbl := lw_at lw_m8 203 rfl
theorem q2042 : (Jvm.Cond.instanceMethod ({ cls := "StiltTownModel", name := "isBad", desc := "(I)Z" } : Jvm.MethodName)) ∈ lw_all := lw_g (lw_at lw_m8 204 rfl) rfl
theorem q2043 : (Jvm.Cond.code ({ cls := "StiltTownModel", name := "isBad", desc := "(I)Z" } : Jvm.MethodName) prog_23_method_84_code (3 : Nat) (Option.some Jvm.ClassFile.FieldType.boolean)) ∈ lw_all := lw_g (lw_at lw_m8 205 rfl) rfl
theorem q2044 : (Jvm.Cond.methodLink "StiltTownModel" (425 : Nat) ({ cls := "StiltTownModel", name := "swayOf", desc := "(II)I" } : Jvm.MethodName)) ∈ lw_all := lw_g (lw_at lw_m8 206 rfl) rfl
theorem q2045 : (Jvm.Cond.privateMethod ({ cls := "StiltTownModel", name := "swayOf", desc := "(II)I" } : Jvm.MethodName)) ∈ lw_tbl := lw_at lw_m8 207 rfl
theorem q2046 : (Jvm.Cond.instanceMethod ({ cls := "StiltTownModel", name := "swayOf", desc := "(II)I" } : Jvm.MethodName)) ∈ lw_all := lw_g (lw_at lw_m8 208 rfl) rfl
theorem q2047 : (Jvm.Cond.code ({ cls := "StiltTownModel", name := "swayOf", desc := "(II)I" } : Jvm.MethodName) prog_23_method_82_code (3 : Nat) (Option.some Jvm.ClassFile.FieldType.int)) ∈ lw_all := lw_g (lw_at lw_m8 209 rfl) rfl
theorem q2048 : (Jvm.Cond.methodLink "StiltTownModel" (419 : Nat) ({ cls := "StiltTownModel", name := "look", desc := "(II)V" } : Jvm.MethodName)) ∈ lw_all := lw_g (lw_at lw_m8 210 rfl) rfl
theorem q2049 : (Jvm.Cond.privateMethod ({ cls := "StiltTownModel", name := "look", desc := "(II)V" } : Jvm.MethodName)) ∈ lw_tbl := lw_at lw_m8 211 rfl
theorem q2050 : (Jvm.Cond.instanceMethod ({ cls := "StiltTownModel", name := "look", desc := "(II)V" } : Jvm.MethodName)) ∈ lw_all := lw_g (lw_at lw_m8 212 rfl) rfl
theorem q2051 : (Jvm.Cond.code ({ cls := "StiltTownModel", name := "look", desc := "(II)V" } : Jvm.MethodName) prog_23_method_81_code (3 : Nat) (Option.none : Option Jvm.ClassFile.FieldType)) ∈ lw_all := lw_g (lw_at lw_m8 213 rfl) rfl
theorem q2052 : (Jvm.Cond.methodLink "StiltTownModel" (428 : Nat) ({ cls := "StiltTownModel", name := "isRule", desc := "(II)Z" } : Jvm.MethodName)) ∈ lw_all := lw_g (lw_at lw_m8 214 rfl) rfl
theorem q2053 : (Jvm.Cond.privateMethod ({ cls := "StiltTownModel", name := "isRule", desc := "(II)Z" } : Jvm.MethodName)) ∈ lw_tbl := lw_at lw_m8 215 rfl
theorem q2054 : (Jvm.Cond.instanceMethod ({ cls := "StiltTownModel", name := "isRule", desc := "(II)Z" } : Jvm.MethodName)) ∈ lw_all := lw_g (lw_at lw_m8 216 rfl) rfl
theorem q2055 : (Jvm.Cond.code ({ cls := "StiltTownModel", name := "isRule", desc := "(II)Z" } : Jvm.MethodName) prog_23_method_83_code (4 : Nat) (Option.some Jvm.ClassFile.FieldType.boolean)) ∈ lw_all := lw_g (lw_at lw_m8 217 rfl) rfl
theorem q2056 : (Jvm.Cond.methodLink "StiltTownModel" (422 : Nat) ({ cls := "StiltTownModel", name := "isHeld", desc := "(II)Z" } : Jvm.MethodName)) ∈ lw_all := lw_g (lw_at lw_m8 218 rfl) rfl
theorem q2057 : (Jvm.Cond.privateMethod ({ cls := "StiltTownModel", name := "isHeld", desc := "(II)Z" } : Jvm.MethodName)) ∈ lw_tbl := lw_at lw_m8 219 rfl
theorem q2058 : (Jvm.Cond.instanceMethod ({ cls := "StiltTownModel", name := "isHeld", desc := "(II)Z" } : Jvm.MethodName)) ∈ lw_all := lw_g (lw_at lw_m8 220 rfl) rfl
theorem q2059 : (Jvm.Cond.code ({ cls := "StiltTownModel", name := "isHeld", desc := "(II)Z" } : Jvm.MethodName) prog_23_method_50_code (6 : Nat) (Option.some Jvm.ClassFile.FieldType.boolean)) ∈ lw_all := lw_g (lw_at lw_m8 221 rfl) rfl
theorem q2060 : (Jvm.Cond.methodLink "StiltTownModel" (358 : Nat) ({ cls := "StiltTownModel", name := "isLit", desc := "(I)Z" } : Jvm.MethodName)) ∈ lw_all := lw_g (lw_at lw_m8 222 rfl) rfl
theorem q2061 : (Jvm.Cond.privateMethod ({ cls := "StiltTownModel", name := "isLit", desc := "(I)Z" } : Jvm.MethodName)) ∈ lw_tbl := lw_at lw_m8 223 rfl
theorem q2062 : (Jvm.Cond.instanceMethod ({ cls := "StiltTownModel", name := "isLit", desc := "(I)Z" } : Jvm.MethodName)) ∈ lw_all := lw_g (lw_at lw_m8 224 rfl) rfl
theorem q2063 : (Jvm.Cond.code ({ cls := "StiltTownModel", name := "isLit", desc := "(I)Z" } : Jvm.MethodName) prog_23_method_49_code (5 : Nat) (Option.some Jvm.ClassFile.FieldType.boolean)) ∈ lw_all := lw_g (lw_at lw_m8 225 rfl) rfl
theorem q2065 : (Jvm.Cond.instanceMethod ({ cls := "StiltTownModel", name := "wood", desc := "(I)I" } : Jvm.MethodName)) ∈ lw_all := lw_g (lw_at lw_m8 227 rfl) rfl
theorem q2066 : (Jvm.Cond.selects "StiltTownModel" ({ cls := "StiltTownModel", name := "wood", desc := "(I)I" } : Jvm.MethodName) ({ cls := "StiltTownModel", name := "wood", desc := "(I)I" } : Jvm.MethodName)) ∈ lw_all := lw_g (lw_at lw_m8 228 rfl) rfl
theorem q2067 : (Jvm.Cond.code ({ cls := "StiltTownModel", name := "wood", desc := "(I)I" } : Jvm.MethodName) prog_23_method_88_code (2 : Nat) (Option.some Jvm.ClassFile.FieldType.int)) ∈ lw_all := lw_g (lw_at lw_m8 229 rfl) rfl
theorem q2069 : (Jvm.Cond.instanceMethod ({ cls := "StiltTownModel", name := "jack", desc := "(II)I" } : Jvm.MethodName)) ∈ lw_all := lw_g (lw_at lw_m8 231 rfl) rfl
theorem q2070 : (Jvm.Cond.selects "StiltTownModel" ({ cls := "StiltTownModel", name := "jack", desc := "(II)I" } : Jvm.MethodName) ({ cls := "StiltTownModel", name := "jack", desc := "(II)I" } : Jvm.MethodName)) ∈ lw_all := lw_g (lw_at lw_m8 232 rfl) rfl
theorem q2071 : (Jvm.Cond.code ({ cls := "StiltTownModel", name := "jack", desc := "(II)I" } : Jvm.MethodName) prog_23_method_91_code (4 : Nat) (Option.some Jvm.ClassFile.FieldType.int)) ∈ lw_all := lw_g (lw_at lw_m8 233 rfl) rfl
theorem q2072 : (Jvm.Cond.methodLink "StiltTownModel" (445 : Nat) ({ cls := "StiltTownModel", name := "jacks", desc := "(I)I" } : Jvm.MethodName)) ∈ lw_all := lw_g (lw_at lw_m8 234 rfl) rfl
theorem q2073 : (Jvm.Cond.privateMethod ({ cls := "StiltTownModel", name := "jacks", desc := "(I)I" } : Jvm.MethodName)) ∈ lw_tbl := lw_at lw_m8 235 rfl
theorem q2074 : (Jvm.Cond.instanceMethod ({ cls := "StiltTownModel", name := "jacks", desc := "(I)I" } : Jvm.MethodName)) ∈ lw_all := lw_g (lw_at lw_m8 236 rfl) rfl
theorem q2075 : (Jvm.Cond.code ({ cls := "StiltTownModel", name := "jacks", desc := "(I)I" } : Jvm.MethodName) prog_23_method_90_code (8 : Nat) (Option.some Jvm.ClassFile.FieldType.int)) ∈ lw_all := lw_g (lw_at lw_m8 237 rfl) rfl
theorem q2076 : (Jvm.Cond.constant "StiltTownModel" (441 : Nat) (1000000 : Int32)) ∈ lw_all := lw_g (lw_at lw_m8 238 rfl) rfl
theorem q2077 : (Jvm.Cond.methodLink "StiltTownModel" (442 : Nat) ({ cls := "StiltTownModel", name := "least", desc := "(II)I" } : Jvm.MethodName)) ∈ lw_all := lw_g (lw_at lw_m8 239 rfl) rfl
theorem q2078 : (Jvm.Cond.static ({ cls := "StiltTownModel", name := "least", desc := "(II)I" } : Jvm.MethodName)) ∈ lw_all := lw_g (lw_at lw_m9 0 rfl) rfl
theorem q2079 : (Jvm.Cond.code ({ cls := "StiltTownModel", name := "least", desc := "(II)I" } : Jvm.MethodName) prog_23_method_89_code (2 : Nat) (Option.some Jvm.ClassFile.FieldType.int)) ∈ lw_all := lw_g (lw_at lw_m9 1 rfl) rfl
theorem q2081 : (Jvm.Cond.instanceMethod ({ cls := "StiltTownModel", name := "work", desc := "(III)I" } : Jvm.MethodName)) ∈ lw_all := lw_g (lw_at lw_m9 3 rfl) rfl
theorem q2082 : (Jvm.Cond.selects "StiltTownModel" ({ cls := "StiltTownModel", name := "work", desc := "(III)I" } : Jvm.MethodName) ({ cls := "StiltTownModel", name := "work", desc := "(III)I" } : Jvm.MethodName)) ∈ lw_all := lw_g (lw_at lw_m9 4 rfl) rfl
theorem q2083 : (Jvm.Cond.code ({ cls := "StiltTownModel", name := "work", desc := "(III)I" } : Jvm.MethodName) prog_23_method_92_code (5 : Nat) (Option.some Jvm.ClassFile.FieldType.int)) ∈ lw_all := lw_g (lw_at lw_m9 5 rfl) rfl
theorem q2085 : (Jvm.Cond.instanceMethod ({ cls := "StiltTownModel", name := "forget", desc := "()I" } : Jvm.MethodName)) ∈ lw_all := lw_g (lw_at lw_m9 7 rfl) rfl
theorem q2086 : (Jvm.Cond.selects "StiltTownModel" ({ cls := "StiltTownModel", name := "forget", desc := "()I" } : Jvm.MethodName) ({ cls := "StiltTownModel", name := "forget", desc := "()I" } : Jvm.MethodName)) ∈ lw_all := lw_g (lw_at lw_m9 8 rfl) rfl
theorem q2087 : (Jvm.Cond.code ({ cls := "StiltTownModel", name := "forget", desc := "()I" } : Jvm.MethodName) prog_23_method_93_code (2 : Nat) (Option.some Jvm.ClassFile.FieldType.int)) ∈ lw_all := lw_g (lw_at lw_m9 9 rfl) rfl
theorem q2089 : (Jvm.Cond.instanceMethod ({ cls := "StiltTownModel", name := "judge", desc := "()I" } : Jvm.MethodName)) ∈ lw_all := lw_g (lw_at lw_m9 11 rfl) rfl
theorem q2090 : (Jvm.Cond.selects "StiltTownModel" ({ cls := "StiltTownModel", name := "judge", desc := "()I" } : Jvm.MethodName) ({ cls := "StiltTownModel", name := "judge", desc := "()I" } : Jvm.MethodName)) ∈ lw_all := lw_g (lw_at lw_m9 12 rfl) rfl
theorem q2091 : (Jvm.Cond.code ({ cls := "StiltTownModel", name := "judge", desc := "()I" } : Jvm.MethodName) prog_23_method_98_code (2 : Nat) (Option.some Jvm.ClassFile.FieldType.int)) ∈ lw_all := lw_g (lw_at lw_m9 13 rfl) rfl
theorem q2092 : (Jvm.Cond.methodLink "StiltTownModel" (454 : Nat) ({ cls := "StiltTownModel", name := "keep", desc := "(I)V" } : Jvm.MethodName)) ∈ lw_all := lw_g (lw_at lw_m9 14 rfl) rfl
theorem q2093 : (Jvm.Cond.privateMethod ({ cls := "StiltTownModel", name := "keep", desc := "(I)V" } : Jvm.MethodName)) ∈ lw_tbl := lw_at lw_m9 15 rfl
theorem q2094 : (Jvm.Cond.instanceMethod ({ cls := "StiltTownModel", name := "keep", desc := "(I)V" } : Jvm.MethodName)) ∈ lw_all := lw_g (lw_at lw_m9 16 rfl) rfl
theorem q2095 : (Jvm.Cond.code ({ cls := "StiltTownModel", name := "keep", desc := "(I)V" } : Jvm.MethodName) prog_23_method_94_code (3 : Nat) (Option.none : Option Jvm.ClassFile.FieldType)) ∈ lw_all := lw_g (lw_at lw_m9 17 rfl) rfl
theorem q2096 : (Jvm.Cond.methodLink "StiltTownModel" (457 : Nat) ({ cls := "StiltTownModel", name := "makesAll", desc := "()I" } : Jvm.MethodName)) ∈ lw_all := lw_g (lw_at lw_m9 18 rfl) rfl
theorem q2097 : (Jvm.Cond.privateMethod ({ cls := "StiltTownModel", name := "makesAll", desc := "()I" } : Jvm.MethodName)) ∈ lw_tbl := lw_at lw_m9 19 rfl
theorem q2098 : (Jvm.Cond.instanceMethod ({ cls := "StiltTownModel", name := "makesAll", desc := "()I" } : Jvm.MethodName)) ∈ lw_all := lw_g (lw_at lw_m9 20 rfl) rfl
theorem q2099 : (Jvm.Cond.code ({ cls := "StiltTownModel", name := "makesAll", desc := "()I" } : Jvm.MethodName) prog_23_method_97_code (7 : Nat) (Option.some Jvm.ClassFile.FieldType.int)) ∈ lw_all := lw_g (lw_at lw_m9 21 rfl) rfl
theorem q2100 : (Jvm.Cond.methodLink "StiltTownModel" (451 : Nat) ({ cls := "StiltTownModel", name := "makes", desc := "(II)I" } : Jvm.MethodName)) ∈ lw_all := lw_g (lw_at lw_m9 22 rfl) rfl
theorem q2101 : (Jvm.Cond.privateMethod ({ cls := "StiltTownModel", name := "makes", desc := "(II)I" } : Jvm.MethodName)) ∈ lw_tbl := lw_at lw_m9 23 rfl
theorem q2102 : (Jvm.Cond.instanceMethod ({ cls := "StiltTownModel", name := "makes", desc := "(II)I" } : Jvm.MethodName)) ∈ lw_all := lw_g (lw_at lw_m9 24 rfl) rfl
theorem q2103 : (Jvm.Cond.code ({ cls := "StiltTownModel", name := "makes", desc := "(II)I" } : Jvm.MethodName) prog_23_method_96_code (7 : Nat) (Option.some Jvm.ClassFile.FieldType.int)) ∈ lw_all := lw_g (lw_at lw_m9 25 rfl) rfl
theorem q2104 : (Jvm.Cond.methodLink "StiltTownModel" (460 : Nat) ({ cls := "StiltTownModel", name := "putBack", desc := "(I)V" } : Jvm.MethodName)) ∈ lw_all := lw_g (lw_at lw_m9 26 rfl) rfl
theorem q2105 : (Jvm.Cond.privateMethod ({ cls := "StiltTownModel", name := "putBack", desc := "(I)V" } : Jvm.MethodName)) ∈ lw_tbl := lw_at lw_m9 27 rfl
theorem q2106 : (Jvm.Cond.instanceMethod ({ cls := "StiltTownModel", name := "putBack", desc := "(I)V" } : Jvm.MethodName)) ∈ lw_all := lw_g (lw_at lw_m9 28 rfl) rfl
theorem q2107 : (Jvm.Cond.code ({ cls := "StiltTownModel", name := "putBack", desc := "(I)V" } : Jvm.MethodName) prog_23_method_95_code (3 : Nat) (Option.none : Option Jvm.ClassFile.FieldType)) ∈ lw_all := lw_g (lw_at lw_m9 29 rfl) rfl
theorem q2109 : (Jvm.Cond.instanceMethod ({ cls := "StiltTownModel", name := "done", desc := "()I" } : Jvm.MethodName)) ∈ lw_all := lw_g (lw_at lw_m9 31 rfl) rfl
theorem q2110 : (Jvm.Cond.selects "StiltTownModel" ({ cls := "StiltTownModel", name := "done", desc := "()I" } : Jvm.MethodName) ({ cls := "StiltTownModel", name := "done", desc := "()I" } : Jvm.MethodName)) ∈ lw_all := lw_g (lw_at lw_m9 32 rfl) rfl
theorem q2111 : (Jvm.Cond.code ({ cls := "StiltTownModel", name := "done", desc := "()I" } : Jvm.MethodName) prog_23_method_99_code (2 : Nat) (Option.some Jvm.ClassFile.FieldType.int)) ∈ lw_all := lw_g (lw_at lw_m9 33 rfl) rfl
theorem q2113 : (Jvm.Cond.instanceMethod ({ cls := "StiltTownModel", name := "undo", desc := "()Z" } : Jvm.MethodName)) ∈ lw_all := lw_g (lw_at lw_m9 35 rfl) rfl
theorem q2114 : (Jvm.Cond.selects "StiltTownModel" ({ cls := "StiltTownModel", name := "undo", desc := "()Z" } : Jvm.MethodName) ({ cls := "StiltTownModel", name := "undo", desc := "()Z" } : Jvm.MethodName)) ∈ lw_all := lw_g (lw_at lw_m9 36 rfl) rfl
theorem q2115 : (Jvm.Cond.code ({ cls := "StiltTownModel", name := "undo", desc := "()Z" } : Jvm.MethodName) prog_23_method_100_code (1 : Nat) (Option.some Jvm.ClassFile.FieldType.boolean)) ∈ lw_all := lw_g (lw_at lw_m9 37 rfl) rfl
theorem q2117 : (Jvm.Cond.instanceMethod ({ cls := "StiltTownModel", name := "nights", desc := "(I)I" } : Jvm.MethodName)) ∈ lw_all := lw_g (lw_at lw_m9 39 rfl) rfl
theorem q2118 : (Jvm.Cond.selects "StiltTownModel" ({ cls := "StiltTownModel", name := "nights", desc := "(I)I" } : Jvm.MethodName) ({ cls := "StiltTownModel", name := "nights", desc := "(I)I" } : Jvm.MethodName)) ∈ lw_all := lw_g (lw_at lw_m9 40 rfl) rfl
theorem q2119 : (Jvm.Cond.code ({ cls := "StiltTownModel", name := "nights", desc := "(I)I" } : Jvm.MethodName) prog_23_method_104_code (4 : Nat) (Option.some Jvm.ClassFile.FieldType.int)) ∈ lw_all := lw_g (lw_at lw_m9 41 rfl) rfl
theorem q2120 : (Jvm.Cond.methodLink "StiltTownModel" (469 : Nat) ({ cls := "StiltTownModel", name := "layNights", desc := "()V" } : Jvm.MethodName)) ∈ lw_all := lw_g (lw_at lw_m9 42 rfl) rfl
theorem q2121 : (Jvm.Cond.privateMethod ({ cls := "StiltTownModel", name := "layNights", desc := "()V" } : Jvm.MethodName)) ∈ lw_tbl := lw_at lw_m9 43 rfl
theorem q2122 : (Jvm.Cond.instanceMethod ({ cls := "StiltTownModel", name := "layNights", desc := "()V" } : Jvm.MethodName)) ∈ lw_all := lw_g (lw_at lw_m9 44 rfl) rfl
theorem q2123 : (Jvm.Cond.code ({ cls := "StiltTownModel", name := "layNights", desc := "()V" } : Jvm.MethodName) prog_23_method_102_code (5 : Nat) (Option.none : Option Jvm.ClassFile.FieldType)) ∈ lw_all := lw_g (lw_at lw_m9 45 rfl) rfl
theorem q2124 : (Jvm.Cond.methodLink "StiltTownModel" (466 : Nat) ({ cls := "StiltTownModel", name := "brings", desc := "(I)V" } : Jvm.MethodName)) ∈ lw_all := lw_g (lw_at lw_m9 46 rfl) rfl
theorem q2125 : (Jvm.Cond.privateMethod ({ cls := "StiltTownModel", name := "brings", desc := "(I)V" } : Jvm.MethodName)) ∈ lw_tbl := lw_at lw_m9 47 rfl
theorem q2126 : (Jvm.Cond.instanceMethod ({ cls := "StiltTownModel", name := "brings", desc := "(I)V" } : Jvm.MethodName)) ∈ lw_all := lw_g (lw_at lw_m9 48 rfl) rfl
theorem q2127 : (Jvm.Cond.code ({ cls := "StiltTownModel", name := "brings", desc := "(I)V" } : Jvm.MethodName) prog_23_method_101_code (3 : Nat) (Option.none : Option Jvm.ClassFile.FieldType)) ∈ lw_all := lw_g (lw_at lw_m9 49 rfl) rfl
theorem q2128 : (Jvm.Cond.methodLink "StiltTownModel" (472 : Nat) ({ cls := "StiltTownModel", name := "firstNight", desc := "()I" } : Jvm.MethodName)) ∈ lw_all := lw_g (lw_at lw_m9 50 rfl) rfl
theorem q2129 : (Jvm.Cond.privateMethod ({ cls := "StiltTownModel", name := "firstNight", desc := "()I" } : Jvm.MethodName)) ∈ lw_tbl := lw_at lw_m9 51 rfl
theorem q2130 : (Jvm.Cond.instanceMethod ({ cls := "StiltTownModel", name := "firstNight", desc := "()I" } : Jvm.MethodName)) ∈ lw_all := lw_g (lw_at lw_m9 52 rfl) rfl
theorem q2131 : (Jvm.Cond.code ({ cls := "StiltTownModel", name := "firstNight", desc := "()I" } : Jvm.MethodName) prog_23_method_103_code (4 : Nat) (Option.some Jvm.ClassFile.FieldType.int)) ∈ lw_all := lw_g (lw_at lw_m9 53 rfl) rfl
theorem q2133 : (Jvm.Cond.instanceMethod ({ cls := "StiltTownModel", name := "looks", desc := "(II)I" } : Jvm.MethodName)) ∈ lw_all := lw_g (lw_at lw_m9 55 rfl) rfl
theorem q2134 : (Jvm.Cond.selects "StiltTownModel" ({ cls := "StiltTownModel", name := "looks", desc := "(II)I" } : Jvm.MethodName) ({ cls := "StiltTownModel", name := "looks", desc := "(II)I" } : Jvm.MethodName)) ∈ lw_all := lw_g (lw_at lw_m9 56 rfl) rfl
theorem q2135 : (Jvm.Cond.code ({ cls := "StiltTownModel", name := "looks", desc := "(II)I" } : Jvm.MethodName) prog_23_method_107_code (4 : Nat) (Option.some Jvm.ClassFile.FieldType.int)) ∈ lw_all := lw_g (lw_at lw_m9 57 rfl) rfl
theorem q2136 : (Jvm.Cond.methodLink "StiltTownModel" (475 : Nat) ({ cls := "StiltTownModel", name := "isBetween", desc := "(III)Z" } : Jvm.MethodName)) ∈ lw_all := lw_g (lw_at lw_m9 58 rfl) rfl
theorem q2137 : (Jvm.Cond.privateMethod ({ cls := "StiltTownModel", name := "isBetween", desc := "(III)Z" } : Jvm.MethodName)) ∈ lw_tbl := lw_at lw_m9 59 rfl
theorem q2138 : (Jvm.Cond.instanceMethod ({ cls := "StiltTownModel", name := "isBetween", desc := "(III)Z" } : Jvm.MethodName)) ∈ lw_all := lw_g (lw_at lw_m9 60 rfl) rfl
theorem q2139 : (Jvm.Cond.code ({ cls := "StiltTownModel", name := "isBetween", desc := "(III)Z" } : Jvm.MethodName) prog_23_method_106_code (4 : Nat) (Option.some Jvm.ClassFile.FieldType.boolean)) ∈ lw_all := lw_g (lw_at lw_m9 61 rfl) rfl
theorem q2140 : (Jvm.Cond.methodLink "StiltTownModel" (478 : Nat) ({ cls := "StiltTownModel", name := "isBelow", desc := "(III)Z" } : Jvm.MethodName)) ∈ lw_all := lw_g (lw_at lw_m9 62 rfl) rfl
theorem q2141 : (Jvm.Cond.privateMethod ({ cls := "StiltTownModel", name := "isBelow", desc := "(III)Z" } : Jvm.MethodName)) ∈ lw_tbl := lw_at lw_m9 63 rfl
theorem q2142 : (Jvm.Cond.instanceMethod ({ cls := "StiltTownModel", name := "isBelow", desc := "(III)Z" } : Jvm.MethodName)) ∈ lw_all := lw_g (lw_at lw_m9 64 rfl) rfl
theorem q2143 : (Jvm.Cond.code ({ cls := "StiltTownModel", name := "isBelow", desc := "(III)Z" } : Jvm.MethodName) prog_23_method_105_code (6 : Nat) (Option.some Jvm.ClassFile.FieldType.boolean)) ∈ lw_all := lw_g (lw_at lw_m9 65 rfl) rfl
theorem q2145 : (Jvm.Cond.instanceMethod ({ cls := "StiltTownModel", name := "light", desc := "(I)I" } : Jvm.MethodName)) ∈ lw_all := lw_g (lw_at lw_m9 67 rfl) rfl
theorem q2146 : (Jvm.Cond.selects "StiltTownModel" ({ cls := "StiltTownModel", name := "light", desc := "(I)I" } : Jvm.MethodName) ({ cls := "StiltTownModel", name := "light", desc := "(I)I" } : Jvm.MethodName)) ∈ lw_all := lw_g (lw_at lw_m9 68 rfl) rfl
theorem q2147 : (Jvm.Cond.code ({ cls := "StiltTownModel", name := "light", desc := "(I)I" } : Jvm.MethodName) prog_23_method_108_code (7 : Nat) (Option.some Jvm.ClassFile.FieldType.int)) ∈ lw_all := lw_g (lw_at lw_m9 69 rfl) rfl
theorem q2149 : (Jvm.Cond.instanceMethod ({ cls := "StiltTownModel", name := "sway", desc := "(II)I" } : Jvm.MethodName)) ∈ lw_all := lw_g (lw_at lw_m9 71 rfl) rfl
theorem q2150 : (Jvm.Cond.selects "StiltTownModel" ({ cls := "StiltTownModel", name := "sway", desc := "(II)I" } : Jvm.MethodName) ({ cls := "StiltTownModel", name := "sway", desc := "(II)I" } : Jvm.MethodName)) ∈ lw_all := lw_g (lw_at lw_m9 72 rfl) rfl
theorem q2151 : (Jvm.Cond.code ({ cls := "StiltTownModel", name := "sway", desc := "(II)I" } : Jvm.MethodName) prog_23_method_110_code (3 : Nat) (Option.some Jvm.ClassFile.FieldType.int)) ∈ lw_all := lw_g (lw_at lw_m9 73 rfl) rfl
theorem q2152 : (Jvm.Cond.methodLink "StiltTownModel" (481 : Nat) ({ cls := "StiltTownModel", name := "isWind", desc := "(I)Z" } : Jvm.MethodName)) ∈ lw_all := lw_g (lw_at lw_m9 74 rfl) rfl
theorem q2153 : (Jvm.Cond.static ({ cls := "StiltTownModel", name := "isWind", desc := "(I)Z" } : Jvm.MethodName)) ∈ lw_all := lw_g (lw_at lw_m9 75 rfl) rfl
theorem q2154 : (Jvm.Cond.code ({ cls := "StiltTownModel", name := "isWind", desc := "(I)Z" } : Jvm.MethodName) prog_23_method_109_code (1 : Nat) (Option.some Jvm.ClassFile.FieldType.boolean)) ∈ lw_all := lw_g (lw_at lw_m9 76 rfl) rfl
theorem q2156 : (Jvm.Cond.instanceMethod ({ cls := "StiltTownModel", name := "chain", desc := "(III)I" } : Jvm.MethodName)) ∈ lw_all := lw_g (lw_at lw_m9 78 rfl) rfl
theorem q2157 : (Jvm.Cond.selects "StiltTownModel" ({ cls := "StiltTownModel", name := "chain", desc := "(III)I" } : Jvm.MethodName) ({ cls := "StiltTownModel", name := "chain", desc := "(III)I" } : Jvm.MethodName)) ∈ lw_all := lw_g (lw_at lw_m9 79 rfl) rfl
theorem q2158 : (Jvm.Cond.code ({ cls := "StiltTownModel", name := "chain", desc := "(III)I" } : Jvm.MethodName) prog_23_method_114_code (4 : Nat) (Option.some Jvm.ClassFile.FieldType.int)) ∈ lw_all := lw_g (lw_at lw_m9 80 rfl) rfl
theorem q2159 : (Jvm.Cond.methodLink "StiltTownModel" (496 : Nat) ({ cls := "StiltTownModel", name := "chains", desc := "(II)V" } : Jvm.MethodName)) ∈ lw_all := lw_g (lw_at lw_m9 81 rfl) rfl
theorem q2160 : (Jvm.Cond.privateMethod ({ cls := "StiltTownModel", name := "chains", desc := "(II)V" } : Jvm.MethodName)) ∈ lw_tbl := lw_at lw_m9 82 rfl
theorem q2161 : (Jvm.Cond.instanceMethod ({ cls := "StiltTownModel", name := "chains", desc := "(II)V" } : Jvm.MethodName)) ∈ lw_all := lw_g (lw_at lw_m9 83 rfl) rfl
theorem q2162 : (Jvm.Cond.code ({ cls := "StiltTownModel", name := "chains", desc := "(II)V" } : Jvm.MethodName) prog_23_method_113_code (7 : Nat) (Option.none : Option Jvm.ClassFile.FieldType)) ∈ lw_all := lw_g (lw_at lw_m9 84 rfl) rfl
theorem q2163 : (Jvm.Cond.methodLink "StiltTownModel" (493 : Nat) ({ cls := "StiltTownModel", name := "isFalling", desc := "(III)Z" } : Jvm.MethodName)) ∈ lw_all := lw_g (lw_at lw_m9 85 rfl) rfl
theorem q2164 : (Jvm.Cond.privateMethod ({ cls := "StiltTownModel", name := "isFalling", desc := "(III)Z" } : Jvm.MethodName)) ∈ lw_tbl := lw_at lw_m9 86 rfl
theorem q2165 : (Jvm.Cond.instanceMethod ({ cls := "StiltTownModel", name := "isFalling", desc := "(III)Z" } : Jvm.MethodName)) ∈ lw_all := lw_g (lw_at lw_m9 87 rfl) rfl
theorem q2166 : (Jvm.Cond.code ({ cls := "StiltTownModel", name := "isFalling", desc := "(III)Z" } : Jvm.MethodName) prog_23_method_112_code (5 : Nat) (Option.some Jvm.ClassFile.FieldType.boolean)) ∈ lw_all := lw_g (lw_at lw_m9 88 rfl) rfl
theorem q2167 : (Jvm.Cond.methodLink "StiltTownModel" (484 : Nat) ({ cls := "StiltTownModel", name := "goneBeside", desc := "(II)I" } : Jvm.MethodName)) ∈ lw_all := lw_g (lw_at lw_m9 89 rfl) rfl
theorem q2168 : (Jvm.Cond.privateMethod ({ cls := "StiltTownModel", name := "goneBeside", desc := "(II)I" } : Jvm.MethodName)) ∈ lw_tbl := lw_at lw_m9 90 rfl
theorem q2169 : (Jvm.Cond.instanceMethod ({ cls := "StiltTownModel", name := "goneBeside", desc := "(II)I" } : Jvm.MethodName)) ∈ lw_all := lw_g (lw_at lw_m9 91 rfl) rfl
theorem q2170 : (Jvm.Cond.code ({ cls := "StiltTownModel", name := "goneBeside", desc := "(II)I" } : Jvm.MethodName) prog_23_method_111_code (7 : Nat) (Option.some Jvm.ClassFile.FieldType.int)) ∈ lw_all := lw_g (lw_at lw_m9 92 rfl) rfl
theorem q2172 : (Jvm.Cond.instanceMethod ({ cls := "StiltTownModel", name := "dread", desc := "(I)I" } : Jvm.MethodName)) ∈ lw_all := lw_g (lw_at lw_m9 94 rfl) rfl
theorem q2173 : (Jvm.Cond.selects "StiltTownModel" ({ cls := "StiltTownModel", name := "dread", desc := "(I)I" } : Jvm.MethodName) ({ cls := "StiltTownModel", name := "dread", desc := "(I)I" } : Jvm.MethodName)) ∈ lw_all := lw_g (lw_at lw_m9 95 rfl) rfl
theorem q2174 : (Jvm.Cond.code ({ cls := "StiltTownModel", name := "dread", desc := "(I)I" } : Jvm.MethodName) prog_23_method_115_code (5 : Nat) (Option.some Jvm.ClassFile.FieldType.int)) ∈ lw_all := lw_g (lw_at lw_m9 96 rfl) rfl
theorem q2176 : (Jvm.Cond.instanceMethod ({ cls := "StiltTownModel", name := "year", desc := "(I)I" } : Jvm.MethodName)) ∈ lw_all := lw_g (lw_at lw_m9 98 rfl) rfl
theorem q2177 : (Jvm.Cond.selects "StiltTownModel" ({ cls := "StiltTownModel", name := "year", desc := "(I)I" } : Jvm.MethodName) ({ cls := "StiltTownModel", name := "year", desc := "(I)I" } : Jvm.MethodName)) ∈ lw_all := lw_g (lw_at lw_m9 99 rfl) rfl
theorem q2178 : (Jvm.Cond.code ({ cls := "StiltTownModel", name := "year", desc := "(I)I" } : Jvm.MethodName) prog_23_method_116_code (2 : Nat) (Option.some Jvm.ClassFile.FieldType.int)) ∈ lw_all := lw_g (lw_at lw_m9 100 rfl) rfl
theorem q2180 : (Jvm.Cond.instanceMethod ({ cls := "StiltTownModel", name := "clear", desc := "()I" } : Jvm.MethodName)) ∈ lw_all := lw_g (lw_at lw_m9 102 rfl) rfl
theorem q2181 : (Jvm.Cond.selects "StiltTownModel" ({ cls := "StiltTownModel", name := "clear", desc := "()I" } : Jvm.MethodName) ({ cls := "StiltTownModel", name := "clear", desc := "()I" } : Jvm.MethodName)) ∈ lw_all := lw_g (lw_at lw_m9 103 rfl) rfl
theorem q2182 : (Jvm.Cond.code ({ cls := "StiltTownModel", name := "clear", desc := "()I" } : Jvm.MethodName) prog_23_method_117_code (2 : Nat) (Option.some Jvm.ClassFile.FieldType.int)) ∈ lw_all := lw_g (lw_at lw_m9 104 rfl) rfl
theorem q2184 : (Jvm.Cond.instanceMethod ({ cls := "StiltTownModel", name := "posts", desc := "(IIIII)I" } : Jvm.MethodName)) ∈ lw_all := lw_g (lw_at lw_m9 106 rfl) rfl
theorem q2185 : (Jvm.Cond.selects "StiltTownModel" ({ cls := "StiltTownModel", name := "posts", desc := "(IIIII)I" } : Jvm.MethodName) ({ cls := "StiltTownModel", name := "posts", desc := "(IIIII)I" } : Jvm.MethodName)) ∈ lw_all := lw_g (lw_at lw_m9 107 rfl) rfl
theorem q2186 : (Jvm.Cond.code ({ cls := "StiltTownModel", name := "posts", desc := "(IIIII)I" } : Jvm.MethodName) prog_23_method_122_code (6 : Nat) (Option.some Jvm.ClassFile.FieldType.int)) ∈ lw_all := lw_g (lw_at lw_m9 108 rfl) rfl
theorem q2187 : (Jvm.Cond.methodLink "StiltTownModel" (506 : Nat) ({ cls := "StiltTownModel", name := "isPosts", desc := "(IIIII)Z" } : Jvm.MethodName)) ∈ lw_all := lw_g (lw_at lw_m9 109 rfl) rfl
theorem q2188 : (Jvm.Cond.static ({ cls := "StiltTownModel", name := "isPosts", desc := "(IIIII)Z" } : Jvm.MethodName)) ∈ lw_all := lw_g (lw_at lw_m9 110 rfl) rfl
theorem q2189 : (Jvm.Cond.code ({ cls := "StiltTownModel", name := "isPosts", desc := "(IIIII)Z" } : Jvm.MethodName) prog_23_method_121_code (5 : Nat) (Option.some Jvm.ClassFile.FieldType.boolean)) ∈ lw_all := lw_g (lw_at lw_m9 111 rfl) rfl
theorem q2190 : (Jvm.Cond.methodLink "StiltTownModel" (510 : Nat) ({ cls := "StiltTownModel", name := "layPosts", desc := "(IIII)V" } : Jvm.MethodName)) ∈ lw_all := lw_g (lw_at lw_m9 112 rfl) rfl
theorem q2191 : (Jvm.Cond.privateMethod ({ cls := "StiltTownModel", name := "layPosts", desc := "(IIII)V" } : Jvm.MethodName)) ∈ lw_tbl := lw_at lw_m9 113 rfl
theorem q2192 : (Jvm.Cond.instanceMethod ({ cls := "StiltTownModel", name := "layPosts", desc := "(IIII)V" } : Jvm.MethodName)) ∈ lw_all := lw_g (lw_at lw_m9 114 rfl) rfl
theorem q2193 : (Jvm.Cond.code ({ cls := "StiltTownModel", name := "layPosts", desc := "(IIII)V" } : Jvm.MethodName) prog_23_method_120_code (9 : Nat) (Option.none : Option Jvm.ClassFile.FieldType)) ∈ lw_all := lw_g (lw_at lw_m9 115 rfl) rfl
theorem q2194 : (Jvm.Cond.methodLink "StiltTownModel" (499 : Nat) ({ cls := "StiltTownModel", name := "mostOf", desc := "(II)I" } : Jvm.MethodName)) ∈ lw_all := lw_g (lw_at lw_m9 116 rfl) rfl
theorem q2195 : (Jvm.Cond.privateMethod ({ cls := "StiltTownModel", name := "mostOf", desc := "(II)I" } : Jvm.MethodName)) ∈ lw_tbl := lw_at lw_m9 117 rfl
theorem q2196 : (Jvm.Cond.instanceMethod ({ cls := "StiltTownModel", name := "mostOf", desc := "(II)I" } : Jvm.MethodName)) ∈ lw_all := lw_g (lw_at lw_m9 118 rfl) rfl
theorem q2197 : (Jvm.Cond.code ({ cls := "StiltTownModel", name := "mostOf", desc := "(II)I" } : Jvm.MethodName) prog_23_method_119_code (3 : Nat) (Option.some Jvm.ClassFile.FieldType.int)) ∈ lw_all := lw_g (lw_at lw_m9 119 rfl) rfl
theorem q2198 : (Jvm.Cond.methodLink "StiltTownModel" (502 : Nat) ({ cls := "StiltTownModel", name := "stepCost", desc := "(IIIII)I" } : Jvm.MethodName)) ∈ lw_all := lw_g (lw_at lw_m9 120 rfl) rfl
theorem q2199 : (Jvm.Cond.static ({ cls := "StiltTownModel", name := "stepCost", desc := "(IIIII)I" } : Jvm.MethodName)) ∈ lw_all := lw_g (lw_at lw_m9 121 rfl) rfl
theorem q2200 : (Jvm.Cond.code ({ cls := "StiltTownModel", name := "stepCost", desc := "(IIIII)I" } : Jvm.MethodName) prog_23_method_118_code (5 : Nat) (Option.some Jvm.ClassFile.FieldType.int)) ∈ lw_all := lw_g (lw_at lw_m9 122 rfl) rfl
theorem q2202 : (Jvm.Cond.instanceMethod ({ cls := "StiltTownModel", name := "postAt", desc := "(IIIIII)I" } : Jvm.MethodName)) ∈ lw_all := lw_g (lw_at lw_m9 124 rfl) rfl
theorem q2203 : (Jvm.Cond.selects "StiltTownModel" ({ cls := "StiltTownModel", name := "postAt", desc := "(IIIIII)I" } : Jvm.MethodName) ({ cls := "StiltTownModel", name := "postAt", desc := "(IIIIII)I" } : Jvm.MethodName)) ∈ lw_all := lw_g (lw_at lw_m9 125 rfl) rfl
theorem q2204 : (Jvm.Cond.code ({ cls := "StiltTownModel", name := "postAt", desc := "(IIIIII)I" } : Jvm.MethodName) prog_23_method_123_code (10 : Nat) (Option.some Jvm.ClassFile.FieldType.int)) ∈ lw_all := lw_g (lw_at lw_m9 126 rfl) rfl
theorem q2206 : (Jvm.Cond.instanceMethod ({ cls := "StiltTownModel", name := "vote", desc := "(III)I" } : Jvm.MethodName)) ∈ lw_all := lw_g (lw_at lw_m9 128 rfl) rfl
theorem q2207 : (Jvm.Cond.selects "StiltTownModel" ({ cls := "StiltTownModel", name := "vote", desc := "(III)I" } : Jvm.MethodName) ({ cls := "StiltTownModel", name := "vote", desc := "(III)I" } : Jvm.MethodName)) ∈ lw_all := lw_g (lw_at lw_m9 129 rfl) rfl
theorem q2208 : (Jvm.Cond.code ({ cls := "StiltTownModel", name := "vote", desc := "(III)I" } : Jvm.MethodName) prog_23_method_125_code (4 : Nat) (Option.some Jvm.ClassFile.FieldType.int)) ∈ lw_all := lw_g (lw_at lw_m9 130 rfl) rfl
theorem q2209 : (Jvm.Cond.methodLink "StiltTownModel" (514 : Nat) ({ cls := "StiltTownModel", name := "log", desc := "(IIII)I" } : Jvm.MethodName)) ∈ lw_all := lw_g (lw_at lw_m9 131 rfl) rfl
theorem q2210 : (Jvm.Cond.privateMethod ({ cls := "StiltTownModel", name := "log", desc := "(IIII)I" } : Jvm.MethodName)) ∈ lw_tbl := lw_at lw_m9 132 rfl
theorem q2211 : (Jvm.Cond.instanceMethod ({ cls := "StiltTownModel", name := "log", desc := "(IIII)I" } : Jvm.MethodName)) ∈ lw_all := lw_g (lw_at lw_m9 133 rfl) rfl
theorem q2212 : (Jvm.Cond.code ({ cls := "StiltTownModel", name := "log", desc := "(IIII)I" } : Jvm.MethodName) prog_23_method_124_code (6 : Nat) (Option.some Jvm.ClassFile.FieldType.int)) ∈ lw_all := lw_g (lw_at lw_m9 134 rfl) rfl
theorem q2214 : (Jvm.Cond.instanceMethod ({ cls := "StiltTownModel", name := "mark", desc := "(III)I" } : Jvm.MethodName)) ∈ lw_all := lw_g (lw_at lw_m9 136 rfl) rfl
theorem q2215 : (Jvm.Cond.selects "StiltTownModel" ({ cls := "StiltTownModel", name := "mark", desc := "(III)I" } : Jvm.MethodName) ({ cls := "StiltTownModel", name := "mark", desc := "(III)I" } : Jvm.MethodName)) ∈ lw_all := lw_g (lw_at lw_m9 137 rfl) rfl
theorem q2216 : (Jvm.Cond.code ({ cls := "StiltTownModel", name := "mark", desc := "(III)I" } : Jvm.MethodName) prog_23_method_126_code (4 : Nat) (Option.some Jvm.ClassFile.FieldType.int)) ∈ lw_all := lw_g (lw_at lw_m9 138 rfl) rfl
theorem q2218 : (Jvm.Cond.instanceMethod ({ cls := "StiltTownModel", name := "annul", desc := "(I)I" } : Jvm.MethodName)) ∈ lw_all := lw_g (lw_at lw_m9 140 rfl) rfl
theorem q2219 : (Jvm.Cond.selects "StiltTownModel" ({ cls := "StiltTownModel", name := "annul", desc := "(I)I" } : Jvm.MethodName) ({ cls := "StiltTownModel", name := "annul", desc := "(I)I" } : Jvm.MethodName)) ∈ lw_all := lw_g (lw_at lw_m9 141 rfl) rfl
theorem q2220 : (Jvm.Cond.code ({ cls := "StiltTownModel", name := "annul", desc := "(I)I" } : Jvm.MethodName) prog_23_method_127_code (2 : Nat) (Option.some Jvm.ClassFile.FieldType.int)) ∈ lw_all := lw_g (lw_at lw_m9 142 rfl) rfl
theorem q2222 : (Jvm.Cond.instanceMethod ({ cls := "StiltTownModel", name := "votes", desc := "(III)I" } : Jvm.MethodName)) ∈ lw_all := lw_g (lw_at lw_m9 144 rfl) rfl
theorem q2223 : (Jvm.Cond.selects "StiltTownModel" ({ cls := "StiltTownModel", name := "votes", desc := "(III)I" } : Jvm.MethodName) ({ cls := "StiltTownModel", name := "votes", desc := "(III)I" } : Jvm.MethodName)) ∈ lw_all := lw_g (lw_at lw_m9 145 rfl) rfl
theorem q2224 : (Jvm.Cond.code ({ cls := "StiltTownModel", name := "votes", desc := "(III)I" } : Jvm.MethodName) prog_23_method_132_code (4 : Nat) (Option.some Jvm.ClassFile.FieldType.int)) ∈ lw_all := lw_g (lw_at lw_m9 146 rfl) rfl
theorem q2225 : (Jvm.Cond.methodLink "StiltTownModel" (523 : Nat) ({ cls := "StiltTownModel", name := "isKnown", desc := "(I)Z" } : Jvm.MethodName)) ∈ lw_all := lw_g (lw_at lw_m9 147 rfl) rfl
theorem q2226 : (Jvm.Cond.privateMethod ({ cls := "StiltTownModel", name := "isKnown", desc := "(I)Z" } : Jvm.MethodName)) ∈ lw_tbl := lw_at lw_m9 148 rfl
theorem q2227 : (Jvm.Cond.instanceMethod ({ cls := "StiltTownModel", name := "isKnown", desc := "(I)Z" } : Jvm.MethodName)) ∈ lw_all := lw_g (lw_at lw_m9 149 rfl) rfl
theorem q2228 : (Jvm.Cond.code ({ cls := "StiltTownModel", name := "isKnown", desc := "(I)Z" } : Jvm.MethodName) prog_23_method_128_code (2 : Nat) (Option.some Jvm.ClassFile.FieldType.boolean)) ∈ lw_all := lw_g (lw_at lw_m9 150 rfl) rfl
theorem q2229 : (Jvm.Cond.methodLink "StiltTownModel" (526 : Nat) ({ cls := "StiltTownModel", name := "votesOf", desc := "(III)I" } : Jvm.MethodName)) ∈ lw_all := lw_g (lw_at lw_m9 151 rfl) rfl
theorem q2230 : (Jvm.Cond.privateMethod ({ cls := "StiltTownModel", name := "votesOf", desc := "(III)I" } : Jvm.MethodName)) ∈ lw_tbl := lw_at lw_m9 152 rfl
theorem q2231 : (Jvm.Cond.instanceMethod ({ cls := "StiltTownModel", name := "votesOf", desc := "(III)I" } : Jvm.MethodName)) ∈ lw_all := lw_g (lw_at lw_m9 153 rfl) rfl
theorem q2232 : (Jvm.Cond.code ({ cls := "StiltTownModel", name := "votesOf", desc := "(III)I" } : Jvm.MethodName) prog_23_method_131_code (6 : Nat) (Option.some Jvm.ClassFile.FieldType.int)) ∈ lw_all := lw_g (lw_at lw_m9 154 rfl) rfl
theorem q2233 : (Jvm.Cond.methodLink "StiltTownModel" (520 : Nat) ({ cls := "StiltTownModel", name := "voteOf", desc := "(III)I" } : Jvm.MethodName)) ∈ lw_all := lw_g (lw_at lw_m9 155 rfl) rfl
theorem q2234 : (Jvm.Cond.privateMethod ({ cls := "StiltTownModel", name := "voteOf", desc := "(III)I" } : Jvm.MethodName)) ∈ lw_tbl := lw_at lw_m9 156 rfl
theorem q2235 : (Jvm.Cond.instanceMethod ({ cls := "StiltTownModel", name := "voteOf", desc := "(III)I" } : Jvm.MethodName)) ∈ lw_all := lw_g (lw_at lw_m9 157 rfl) rfl
theorem q2236 : (Jvm.Cond.code ({ cls := "StiltTownModel", name := "voteOf", desc := "(III)I" } : Jvm.MethodName) prog_23_method_130_code (6 : Nat) (Option.some Jvm.ClassFile.FieldType.int)) ∈ lw_all := lw_g (lw_at lw_m9 158 rfl) rfl
theorem q2237 : (Jvm.Cond.methodLink "StiltTownModel" (517 : Nat) ({ cls := "StiltTownModel", name := "isLive", desc := "(II)Z" } : Jvm.MethodName)) ∈ lw_all := lw_g (lw_at lw_m9 159 rfl) rfl
theorem q2238 : (Jvm.Cond.privateMethod ({ cls := "StiltTownModel", name := "isLive", desc := "(II)Z" } : Jvm.MethodName)) ∈ lw_tbl := lw_at lw_m9 160 rfl
theorem q2239 : (Jvm.Cond.instanceMethod ({ cls := "StiltTownModel", name := "isLive", desc := "(II)Z" } : Jvm.MethodName)) ∈ lw_all := lw_g (lw_at lw_m9 161 rfl) rfl
theorem q2240 : (Jvm.Cond.code ({ cls := "StiltTownModel", name := "isLive", desc := "(II)Z" } : Jvm.MethodName) prog_23_method_129_code (4 : Nat) (Option.some Jvm.ClassFile.FieldType.boolean)) ∈ lw_all := lw_g (lw_at lw_m9 162 rfl) rfl
theorem q2242 : (Jvm.Cond.instanceMethod ({ cls := "StiltTownModel", name := "winner", desc := "(II)I" } : Jvm.MethodName)) ∈ lw_all := lw_g (lw_at lw_m9 164 rfl) rfl
theorem q2243 : (Jvm.Cond.selects "StiltTownModel" ({ cls := "StiltTownModel", name := "winner", desc := "(II)I" } : Jvm.MethodName) ({ cls := "StiltTownModel", name := "winner", desc := "(II)I" } : Jvm.MethodName)) ∈ lw_all := lw_g (lw_at lw_m9 165 rfl) rfl
theorem q2244 : (Jvm.Cond.code ({ cls := "StiltTownModel", name := "winner", desc := "(II)I" } : Jvm.MethodName) prog_23_method_133_code (7 : Nat) (Option.some Jvm.ClassFile.FieldType.int)) ∈ lw_all := lw_g (lw_at lw_m9 166 rfl) rfl
theorem q2246 : (Jvm.Cond.instanceMethod ({ cls := "StiltTownModel", name := "ends", desc := "(IIII)I" } : Jvm.MethodName)) ∈ lw_all := lw_g (lw_at lw_m9 168 rfl) rfl
theorem q2247 : (Jvm.Cond.selects "StiltTownModel" ({ cls := "StiltTownModel", name := "ends", desc := "(IIII)I" } : Jvm.MethodName) ({ cls := "StiltTownModel", name := "ends", desc := "(IIII)I" } : Jvm.MethodName)) ∈ lw_all := lw_g (lw_at lw_m9 169 rfl) rfl
theorem q2248 : (Jvm.Cond.code ({ cls := "StiltTownModel", name := "ends", desc := "(IIII)I" } : Jvm.MethodName) prog_23_method_135_code (12 : Nat) (Option.some Jvm.ClassFile.FieldType.int)) ∈ lw_all := lw_g (lw_at lw_m9 170 rfl) rfl
theorem q2249 : (Jvm.Cond.methodLink "StiltTownModel" (529 : Nat) ({ cls := "StiltTownModel", name := "apart", desc := "(II)I" } : Jvm.MethodName)) ∈ lw_all := lw_g (lw_at lw_m9 171 rfl) rfl
theorem q2250 : (Jvm.Cond.static ({ cls := "StiltTownModel", name := "apart", desc := "(II)I" } : Jvm.MethodName)) ∈ lw_all := lw_g (lw_at lw_m9 172 rfl) rfl
theorem q2251 : (Jvm.Cond.code ({ cls := "StiltTownModel", name := "apart", desc := "(II)I" } : Jvm.MethodName) prog_23_method_134_code (2 : Nat) (Option.some Jvm.ClassFile.FieldType.int)) ∈ lw_all := lw_g (lw_at lw_m9 173 rfl) rfl
theorem q2253 : (Jvm.Cond.instanceMethod ({ cls := "StiltTownModel", name := "years", desc := "(II)I" } : Jvm.MethodName)) ∈ lw_all := lw_g (lw_at lw_m9 175 rfl) rfl
theorem q2254 : (Jvm.Cond.selects "StiltTownModel" ({ cls := "StiltTownModel", name := "years", desc := "(II)I" } : Jvm.MethodName) ({ cls := "StiltTownModel", name := "years", desc := "(II)I" } : Jvm.MethodName)) ∈ lw_all := lw_g (lw_at lw_m9 176 rfl) rfl
theorem q2255 : (Jvm.Cond.code ({ cls := "StiltTownModel", name := "years", desc := "(II)I" } : Jvm.MethodName) prog_23_method_139_code (5 : Nat) (Option.some Jvm.ClassFile.FieldType.int)) ∈ lw_all := lw_g (lw_at lw_m9 177 rfl) rfl
theorem q2256 : (Jvm.Cond.methodLink "StiltTownModel" (539 : Nat) ({ cls := "StiltTownModel", name := "lives", desc := "(II)I" } : Jvm.MethodName)) ∈ lw_all := lw_g (lw_at lw_m9 178 rfl) rfl
theorem q2257 : (Jvm.Cond.privateMethod ({ cls := "StiltTownModel", name := "lives", desc := "(II)I" } : Jvm.MethodName)) ∈ lw_tbl := lw_at lw_m9 179 rfl
theorem q2258 : (Jvm.Cond.instanceMethod ({ cls := "StiltTownModel", name := "lives", desc := "(II)I" } : Jvm.MethodName)) ∈ lw_all := lw_g (lw_at lw_m9 180 rfl) rfl
theorem q2259 : (Jvm.Cond.code ({ cls := "StiltTownModel", name := "lives", desc := "(II)I" } : Jvm.MethodName) prog_23_method_138_code (9 : Nat) (Option.some Jvm.ClassFile.FieldType.int)) ∈ lw_all := lw_g (lw_at lw_m9 181 rfl) rfl
theorem q2260 : (Jvm.Cond.methodLink "StiltTownModel" (536 : Nat) ({ cls := "StiltTownModel", name := "lot", desc := "(III)I" } : Jvm.MethodName)) ∈ lw_all := lw_g (lw_at lw_m9 182 rfl) rfl
theorem q2261 : (Jvm.Cond.static ({ cls := "StiltTownModel", name := "lot", desc := "(III)I" } : Jvm.MethodName)) ∈ lw_all := lw_g (lw_at lw_m9 183 rfl) rfl
theorem q2262 : (Jvm.Cond.code ({ cls := "StiltTownModel", name := "lot", desc := "(III)I" } : Jvm.MethodName) prog_23_method_137_code (3 : Nat) (Option.some Jvm.ClassFile.FieldType.int)) ∈ lw_all := lw_g (lw_at lw_m9 184 rfl) rfl
theorem q2263 : (Jvm.Cond.methodLink "StiltTownModel" (533 : Nat) ({ cls := "StiltTownModel", name := "mixed", desc := "(II)I" } : Jvm.MethodName)) ∈ lw_all := lw_g (lw_at lw_m9 185 rfl) rfl
theorem q2264 : (Jvm.Cond.static ({ cls := "StiltTownModel", name := "mixed", desc := "(II)I" } : Jvm.MethodName)) ∈ lw_all := lw_g (lw_at lw_m9 186 rfl) rfl
theorem q2265 : (Jvm.Cond.code ({ cls := "StiltTownModel", name := "mixed", desc := "(II)I" } : Jvm.MethodName) prog_23_method_136_code (3 : Nat) (Option.some Jvm.ClassFile.FieldType.int)) ∈ lw_all := lw_g (lw_at lw_m9 187 rfl) rfl
theorem q2266 : (Jvm.Cond.constant "StiltTownModel" (532 : Nat) (1103515245 : Int32)) ∈ lw_all := lw_g (lw_at lw_m9 188 rfl) rfl
theorem q2268 : (Jvm.Cond.instanceMethod ({ cls := "StiltTownModel", name := "hold", desc := "(I)Z" } : Jvm.MethodName)) ∈ lw_all := lw_g (lw_at lw_m9 190 rfl) rfl
theorem q2269 : (Jvm.Cond.selects "StiltTownModel" ({ cls := "StiltTownModel", name := "hold", desc := "(I)Z" } : Jvm.MethodName) ({ cls := "StiltTownModel", name := "hold", desc := "(I)Z" } : Jvm.MethodName)) ∈ lw_all := lw_g (lw_at lw_m9 191 rfl) rfl
theorem q2270 : (Jvm.Cond.code ({ cls := "StiltTownModel", name := "hold", desc := "(I)Z" } : Jvm.MethodName) prog_23_method_141_code (2 : Nat) (Option.some Jvm.ClassFile.FieldType.boolean)) ∈ lw_all := lw_g (lw_at lw_m9 192 rfl) rfl
theorem q2271 : (Jvm.Cond.methodLink "StiltTownModel" (542 : Nat) ({ cls := "StiltTownModel", name := "copy", desc := "(II)V" } : Jvm.MethodName)) ∈ lw_all := lw_g (lw_at lw_m9 193 rfl) rfl
theorem q2272 : (Jvm.Cond.privateMethod ({ cls := "StiltTownModel", name := "copy", desc := "(II)V" } : Jvm.MethodName)) ∈ lw_tbl := lw_at lw_m9 194 rfl
theorem q2273 : (Jvm.Cond.instanceMethod ({ cls := "StiltTownModel", name := "copy", desc := "(II)V" } : Jvm.MethodName)) ∈ lw_all := lw_g (lw_at lw_m9 195 rfl) rfl
theorem q2274 : (Jvm.Cond.code ({ cls := "StiltTownModel", name := "copy", desc := "(II)V" } : Jvm.MethodName) prog_23_method_140_code (4 : Nat) (Option.none : Option Jvm.ClassFile.FieldType)) ∈ lw_all := lw_g (lw_at lw_m9 196 rfl) rfl
theorem q2276 : (Jvm.Cond.instanceMethod ({ cls := "StiltTownModel", name := "restore", desc := "(I)Z" } : Jvm.MethodName)) ∈ lw_all := lw_g (lw_at lw_m9 198 rfl) rfl
theorem q2277 : (Jvm.Cond.selects "StiltTownModel" ({ cls := "StiltTownModel", name := "restore", desc := "(I)Z" } : Jvm.MethodName) ({ cls := "StiltTownModel", name := "restore", desc := "(I)Z" } : Jvm.MethodName)) ∈ lw_all := lw_g (lw_at lw_m9 199 rfl) rfl
theorem q2278 : (Jvm.Cond.code ({ cls := "StiltTownModel", name := "restore", desc := "(I)Z" } : Jvm.MethodName) prog_23_method_142_code (2 : Nat) (Option.some Jvm.ClassFile.FieldType.boolean)) ∈ lw_all := lw_g (lw_at lw_m9 200 rfl) rfl
theorem q2280 : (Jvm.Cond.instanceMethod ({ cls := "StiltTownModel", name := "count", desc := "(I)I" } : Jvm.MethodName)) ∈ lw_all := lw_g (lw_at lw_m9 202 rfl) rfl
theorem q2281 : (Jvm.Cond.selects "StiltTownModel" ({ cls := "StiltTownModel", name := "count", desc := "(I)I" } : Jvm.MethodName) ({ cls := "StiltTownModel", name := "count", desc := "(I)I" } : Jvm.MethodName)) ∈ lw_all := lw_g (lw_at lw_m9 203 rfl) rfl
theorem q2282 : (Jvm.Cond.code ({ cls := "StiltTownModel", name := "count", desc := "(I)I" } : Jvm.MethodName) prog_23_method_143_code (2 : Nat) (Option.some Jvm.ClassFile.FieldType.int)) ∈ lw_all := lw_g (lw_at lw_m9 204 rfl) rfl
theorem q2296 : (Jvm.Cond.castable "StiltTownModel" "java/lang/Object") ∈ lw_tbl := lw_at lw_m9 218 rfl
theorem in_X9 : ∀ w ∈ wsX90, w ∈ lw_all := lw_in wsX90 [1608, 1610, 1612, 1614, 1616, 1618, 1620, 1622, 1624, 1626, 1628, 1630, 1632, 1634, 1636, 1638, 1640, 1642, 1644, 1646, 1648, 1650, 1652, 1654, 1656, 1658, 1660, 1662, 1664, 1666, 1668, 1670, 1672, 1674, 1676, 1678, 1680, 1682, 1684, 1686, 1688, 1690, 1692, 1694, 1696, 1698, 1700, 1702, 1704, 1706, 1708, 1710, 1712] (by decide +kernel) (by decide +kernel)

theorem q173 : (Jvm.Cond.initialized "java/lang/String") ∈ lw_all := lw_g (lw_at lw_m1 15 rfl) rfl
theorem q592 : (Jvm.Cond.instanceMethod ({ cls := "java/lang/String", name := "length", desc := "()I" } : Jvm.MethodName)) ∈ lw_all := lw_g (lw_at lw_m2 194 rfl) rfl
theorem q593 : (Jvm.Cond.selects "java/lang/String" ({ cls := "java/lang/String", name := "length", desc := "()I" } : Jvm.MethodName) ({ cls := "java/lang/String", name := "length", desc := "()I" } : Jvm.MethodName)) ∈ lw_all := lw_g (lw_at lw_m2 195 rfl) rfl
theorem q594 : (Jvm.Cond.code ({ cls := "java/lang/String", name := "length", desc := "()I" } : Jvm.MethodName) prog_32_method_54_code (1 : Nat) (Option.some Jvm.ClassFile.FieldType.int)) ∈ lw_all := lw_g (lw_at lw_m2 196 rfl) rfl
theorem q595 : (Jvm.Cond.methodLink "java/lang/String" (335 : Nat) ({ cls := "java/lang/String", name := "coder", desc := "()B" } : Jvm.MethodName)) ∈ lw_all := lw_g (lw_at lw_m2 197 rfl) rfl
theorem q596 : (Jvm.Cond.instanceMethod ({ cls := "java/lang/String", name := "coder", desc := "()B" } : Jvm.MethodName)) ∈ lw_all := lw_g (lw_at lw_m2 198 rfl) rfl
theorem q597 : (Jvm.Cond.selects "java/lang/String" ({ cls := "java/lang/String", name := "coder", desc := "()B" } : Jvm.MethodName) ({ cls := "java/lang/String", name := "coder", desc := "()B" } : Jvm.MethodName)) ∈ lw_all := lw_g (lw_at lw_m2 199 rfl) rfl
theorem q598 : (Jvm.Cond.code ({ cls := "java/lang/String", name := "coder", desc := "()B" } : Jvm.MethodName) prog_32_method_152_code (1 : Nat) (Option.some Jvm.ClassFile.FieldType.byte)) ∈ lw_all := lw_g (lw_at lw_m2 200 rfl) rfl
theorem q599 : (Jvm.Cond.fieldLink "java/lang/String" (38 : Nat) "java/lang/String" "COMPACT_STRINGS" "Z") ∈ lw_all := lw_g (lw_at lw_m2 201 rfl) rfl
theorem q600 : (Jvm.Cond.laysStatic "java/lang/String" "COMPACT_STRINGS" "Z") ∈ lw_tbl := lw_at lw_m2 202 rfl
theorem q602 : (Jvm.Cond.instanceMethod ({ cls := "java/lang/String", name := "charAt", desc := "(I)C" } : Jvm.MethodName)) ∈ lw_all := lw_g (lw_at lw_m2 204 rfl) rfl
theorem q603 : (Jvm.Cond.selects "java/lang/String" ({ cls := "java/lang/String", name := "charAt", desc := "(I)C" } : Jvm.MethodName) ({ cls := "java/lang/String", name := "charAt", desc := "(I)C" } : Jvm.MethodName)) ∈ lw_all := lw_g (lw_at lw_m2 205 rfl) rfl
theorem q604 : (Jvm.Cond.code ({ cls := "java/lang/String", name := "charAt", desc := "(I)C" } : Jvm.MethodName) prog_32_method_56_code (2 : Nat) (Option.some Jvm.ClassFile.FieldType.char)) ∈ lw_all := lw_g (lw_at lw_m2 206 rfl) rfl
theorem q605 : (Jvm.Cond.methodLink "java/lang/String" (492 : Nat) ({ cls := "java/lang/String", name := "isLatin1", desc := "()Z" } : Jvm.MethodName)) ∈ lw_all := lw_g (lw_at lw_m2 207 rfl) rfl
theorem q606 : (Jvm.Cond.instanceMethod ({ cls := "java/lang/String", name := "isLatin1", desc := "()Z" } : Jvm.MethodName)) ∈ lw_all := lw_g (lw_at lw_m2 208 rfl) rfl
theorem q607 : (Jvm.Cond.selects "java/lang/String" ({ cls := "java/lang/String", name := "isLatin1", desc := "()Z" } : Jvm.MethodName) ({ cls := "java/lang/String", name := "isLatin1", desc := "()Z" } : Jvm.MethodName)) ∈ lw_all := lw_g (lw_at lw_m2 209 rfl) rfl
theorem q608 : (Jvm.Cond.code ({ cls := "java/lang/String", name := "isLatin1", desc := "()Z" } : Jvm.MethodName) prog_32_method_154_code (1 : Nat) (Option.some Jvm.ClassFile.FieldType.boolean)) ∈ lw_all := lw_g (lw_at lw_m2 210 rfl) rfl
theorem q609 : (Jvm.Cond.methodLink "java/lang/String" (495 : Nat) ({ cls := "java/lang/StringLatin1", name := "charAt", desc := "([BI)C" } : Jvm.MethodName)) ∈ lw_all := lw_g (lw_at lw_m2 211 rfl) rfl
theorem q613 : (Jvm.Cond.static ({ cls := "java/lang/String", name := "checkIndex", desc := "(II)V" } : Jvm.MethodName)) ∈ lw_all := lw_g (lw_at lw_m2 215 rfl) rfl
theorem q614 : (Jvm.Cond.code ({ cls := "java/lang/String", name := "checkIndex", desc := "(II)V" } : Jvm.MethodName) prog_32_method_155_code (2 : Nat) (Option.none : Option Jvm.ClassFile.FieldType)) ∈ lw_all := lw_g (lw_at lw_m2 216 rfl) rfl
theorem q615 : (Jvm.Cond.fieldLink "java/lang/String" (1053 : Nat) "jdk/internal/util/Preconditions" "SIOOBE_FORMATTER" "Ljava/util/function/BiFunction;") ∈ lw_all := lw_g (lw_at lw_m2 217 rfl) rfl
theorem q617 : (Jvm.Cond.methodLink "java/lang/String" (1059 : Nat) ({ cls := "jdk/internal/util/Preconditions", name := "checkIndex", desc := "(IILjava/util/function/BiFunction;)I" } : Jvm.MethodName)) ∈ lw_all := lw_g (lw_at lw_m2 219 rfl) rfl
theorem q620 : (Jvm.Cond.methodLink "java/lang/String" (498 : Nat) ({ cls := "java/lang/StringUTF16", name := "charAt", desc := "([BI)C" } : Jvm.MethodName)) ∈ lw_all := lw_g (lw_at lw_m2 222 rfl) rfl
theorem q2287 : (Jvm.Cond.castable "java/lang/String" "java/lang/Object") ∈ lw_tbl := lw_at lw_m9 209 rfl
theorem q2321 : (Jvm.Cond.fieldLink "java/lang/String" (9 : Nat) "java/lang/String" "value" "[B") ∈ lw_all := lw_g (lw_at lw_m10 3 rfl) rfl
theorem q2322 : (Jvm.Cond.fieldLink "java/lang/String" (15 : Nat) "java/lang/String" "coder" "B") ∈ lw_all := lw_g (lw_at lw_m10 4 rfl) rfl

theorem q174 : (Jvm.Cond.initialized "java/lang/StringLatin1") ∈ lw_all := lw_g (lw_at lw_m1 16 rfl) rfl
theorem q610 : (Jvm.Cond.static ({ cls := "java/lang/StringLatin1", name := "charAt", desc := "([BI)C" } : Jvm.MethodName)) ∈ lw_all := lw_g (lw_at lw_m2 212 rfl) rfl
theorem q611 : (Jvm.Cond.code ({ cls := "java/lang/StringLatin1", name := "charAt", desc := "([BI)C" } : Jvm.MethodName) prog_33_method_2_code (2 : Nat) (Option.some Jvm.ClassFile.FieldType.char)) ∈ lw_all := lw_g (lw_at lw_m2 213 rfl) rfl
theorem q612 : (Jvm.Cond.methodLink "java/lang/StringLatin1" (9 : Nat) ({ cls := "java/lang/String", name := "checkIndex", desc := "(II)V" } : Jvm.MethodName)) ∈ lw_all := lw_g (lw_at lw_m2 214 rfl) rfl

theorem q175 : (Jvm.Cond.initialized "jdk/internal/util/Preconditions") ∈ lw_all := lw_g (lw_at lw_m1 17 rfl) rfl
theorem q616 : (Jvm.Cond.laysStatic "jdk/internal/util/Preconditions" "SIOOBE_FORMATTER" "Ljava/util/function/BiFunction;") ∈ lw_tbl := lw_at lw_m2 218 rfl
theorem q618 : (Jvm.Cond.static ({ cls := "jdk/internal/util/Preconditions", name := "checkIndex", desc := "(IILjava/util/function/BiFunction;)I" } : Jvm.MethodName)) ∈ lw_all := lw_g (lw_at lw_m2 220 rfl) rfl
theorem q619 : (Jvm.Cond.code ({ cls := "jdk/internal/util/Preconditions", name := "checkIndex", desc := "(IILjava/util/function/BiFunction;)I" } : Jvm.MethodName) prog_47_method_11_code (3 : Nat) (Option.some Jvm.ClassFile.FieldType.int)) ∈ lw_all := lw_g (lw_at lw_m2 221 rfl) rfl

theorem q176 : (Jvm.Cond.initialized "java/lang/StringUTF16") ∈ lw_all := lw_g (lw_at lw_m1 18 rfl) rfl
theorem q621 : (Jvm.Cond.static ({ cls := "java/lang/StringUTF16", name := "charAt", desc := "([BI)C" } : Jvm.MethodName)) ∈ lw_all := lw_g (lw_at lw_m2 223 rfl) rfl
theorem q622 : (Jvm.Cond.code ({ cls := "java/lang/StringUTF16", name := "charAt", desc := "([BI)C" } : Jvm.MethodName) prog_34_method_83_code (2 : Nat) (Option.some Jvm.ClassFile.FieldType.char)) ∈ lw_all := lw_g (lw_at lw_m2 224 rfl) rfl
theorem q623 : (Jvm.Cond.methodLink "java/lang/StringUTF16" (67 : Nat) ({ cls := "java/lang/StringUTF16", name := "checkIndex", desc := "(I[B)V" } : Jvm.MethodName)) ∈ lw_all := lw_g (lw_at lw_m2 225 rfl) rfl
theorem q624 : (Jvm.Cond.static ({ cls := "java/lang/StringUTF16", name := "checkIndex", desc := "(I[B)V" } : Jvm.MethodName)) ∈ lw_all := lw_g (lw_at lw_m2 226 rfl) rfl
theorem q625 : (Jvm.Cond.code ({ cls := "java/lang/StringUTF16", name := "checkIndex", desc := "(I[B)V" } : Jvm.MethodName) prog_34_method_91_code (2 : Nat) (Option.none : Option Jvm.ClassFile.FieldType)) ∈ lw_all := lw_g (lw_at lw_m2 227 rfl) rfl
theorem q626 : (Jvm.Cond.methodLink "java/lang/StringUTF16" (48 : Nat) ({ cls := "java/lang/StringUTF16", name := "length", desc := "([B)I" } : Jvm.MethodName)) ∈ lw_all := lw_g (lw_at lw_m2 228 rfl) rfl
theorem q627 : (Jvm.Cond.static ({ cls := "java/lang/StringUTF16", name := "length", desc := "([B)I" } : Jvm.MethodName)) ∈ lw_all := lw_g (lw_at lw_m2 229 rfl) rfl
theorem q628 : (Jvm.Cond.code ({ cls := "java/lang/StringUTF16", name := "length", desc := "([B)I" } : Jvm.MethodName) prog_34_method_6_code (1 : Nat) (Option.some Jvm.ClassFile.FieldType.int)) ∈ lw_all := lw_g (lw_at lw_m2 230 rfl) rfl
theorem q629 : (Jvm.Cond.methodLink "java/lang/StringUTF16" (414 : Nat) ({ cls := "java/lang/String", name := "checkIndex", desc := "(II)V" } : Jvm.MethodName)) ∈ lw_all := lw_g (lw_at lw_m2 231 rfl) rfl
theorem q630 : (Jvm.Cond.methodLink "java/lang/StringUTF16" (71 : Nat) ({ cls := "java/lang/StringUTF16", name := "getChar", desc := "([BI)C" } : Jvm.MethodName)) ∈ lw_all := lw_g (lw_at lw_m2 232 rfl) rfl
theorem q631 : (Jvm.Cond.static ({ cls := "java/lang/StringUTF16", name := "getChar", desc := "([BI)C" } : Jvm.MethodName)) ∈ lw_all := lw_g (lw_at lw_m2 233 rfl) rfl
theorem q632 : (Jvm.Cond.code ({ cls := "java/lang/StringUTF16", name := "getChar", desc := "([BI)C" } : Jvm.MethodName) prog_34_method_5_code (2 : Nat) (Option.some Jvm.ClassFile.FieldType.char)) ∈ lw_all := lw_g (lw_at lw_m2 234 rfl) rfl
theorem q633 : (Jvm.Cond.fieldLink "java/lang/StringUTF16" (44 : Nat) "java/lang/StringUTF16" "$assertionsDisabled" "Z") ∈ lw_all := lw_g (lw_at lw_m2 235 rfl) rfl
theorem q634 : (Jvm.Cond.laysStatic "java/lang/StringUTF16" "$assertionsDisabled" "Z") ∈ lw_tbl := lw_at lw_m2 236 rfl
theorem q635 : (Jvm.Cond.fieldLink "java/lang/StringUTF16" (59 : Nat) "java/lang/StringUTF16" "HI_BYTE_SHIFT" "I") ∈ lw_all := lw_g (lw_at lw_m2 237 rfl) rfl
theorem q636 : (Jvm.Cond.laysStatic "java/lang/StringUTF16" "HI_BYTE_SHIFT" "I") ∈ lw_tbl := lw_at lw_m2 238 rfl
theorem q637 : (Jvm.Cond.fieldLink "java/lang/StringUTF16" (63 : Nat) "java/lang/StringUTF16" "LO_BYTE_SHIFT" "I") ∈ lw_all := lw_g (lw_at lw_m2 239 rfl) rfl
theorem q638 : (Jvm.Cond.laysStatic "java/lang/StringUTF16" "LO_BYTE_SHIFT" "I") ∈ lw_tbl := lw_at lw_m3 0 rfl

theorem q177 : (Jvm.Cond.initialized "java/lang/Throwable") ∈ lw_all := lw_g (lw_at lw_m1 19 rfl) rfl
theorem q687 : (Jvm.Cond.declares ({ cls := "java/lang/Throwable", name := "<init>", desc := "()V" } : Jvm.MethodName)) ∈ lw_tbl := lw_at lw_m3 49 rfl
theorem q688 : (Jvm.Cond.declares ({ cls := "java/lang/Throwable", name := "<init>", desc := "(Ljava/lang/String;)V" } : Jvm.MethodName)) ∈ lw_tbl := lw_at lw_m3 50 rfl
theorem q692 : (Jvm.Cond.lays "java/lang/Throwable" "java/lang/Throwable" "cause" "Ljava/lang/Throwable;") ∈ lw_all := lw_g (lw_at lw_m3 54 rfl) rfl
theorem q694 : (Jvm.Cond.lays "java/lang/Throwable" "java/lang/Throwable" "stackTrace" "[Ljava/lang/StackTraceElement;") ∈ lw_all := lw_g (lw_at lw_m3 56 rfl) rfl
theorem q696 : (Jvm.Cond.lays "java/lang/Throwable" "java/lang/Throwable" "suppressedExceptions" "Ljava/util/List;") ∈ lw_all := lw_g (lw_at lw_m3 58 rfl) rfl
theorem q698 : (Jvm.Cond.lays "java/lang/Throwable" "java/lang/Throwable" "detailMessage" "Ljava/lang/String;") ∈ lw_all := lw_g (lw_at lw_m3 60 rfl) rfl
theorem q700 : (Jvm.Cond.lays "java/lang/Throwable" "java/lang/Throwable" "backtrace" "Ljava/lang/Object;") ∈ lw_all := lw_g (lw_at lw_m3 62 rfl) rfl
theorem q701 : (Jvm.Cond.fieldLink "java/lang/Throwable" (198 : Nat) "java/lang/Throwable" "backtrace" "Ljava/lang/Object;") ∈ lw_all := lw_g (lw_at lw_m3 63 rfl) rfl
theorem q702 : (Jvm.Cond.superclass "java/lang/Throwable" "java/lang/Object") ∈ lw_all := lw_g (lw_at lw_m3 64 rfl) rfl
theorem q703 : (Jvm.Cond.instanceMethod ({ cls := "java/lang/Throwable", name := "<init>", desc := "()V" } : Jvm.MethodName)) ∈ lw_all := lw_g (lw_at lw_m3 65 rfl) rfl
theorem q704 : (Jvm.Cond.code ({ cls := "java/lang/Throwable", name := "<init>", desc := "()V" } : Jvm.MethodName) prog_36_method_1_code (1 : Nat) (Option.none : Option Jvm.ClassFile.FieldType)) ∈ lw_all := lw_g (lw_at lw_m3 66 rfl) rfl
theorem q705 : (Jvm.Cond.methodLink "java/lang/Throwable" (1 : Nat) ({ cls := "java/lang/Object", name := "<init>", desc := "()V" } : Jvm.MethodName)) ∈ lw_all := lw_g (lw_at lw_m3 67 rfl) rfl
theorem q706 : (Jvm.Cond.fieldLink "java/lang/Throwable" (13 : Nat) "java/lang/Throwable" "UNASSIGNED_STACK" "[Ljava/lang/StackTraceElement;") ∈ lw_all := lw_g (lw_at lw_m3 68 rfl) rfl
theorem q707 : (Jvm.Cond.laysStatic "java/lang/Throwable" "UNASSIGNED_STACK" "[Ljava/lang/StackTraceElement;") ∈ lw_tbl := lw_at lw_m3 69 rfl
theorem q708 : (Jvm.Cond.fieldLink "java/lang/Throwable" (20 : Nat) "java/lang/Throwable" "SUPPRESSED_SENTINEL" "Ljava/util/List;") ∈ lw_all := lw_g (lw_at lw_m3 70 rfl) rfl
theorem q709 : (Jvm.Cond.laysStatic "java/lang/Throwable" "SUPPRESSED_SENTINEL" "Ljava/util/List;") ∈ lw_tbl := lw_at lw_m3 71 rfl
theorem q710 : (Jvm.Cond.methodLink "java/lang/Throwable" (27 : Nat) ({ cls := "java/lang/Throwable", name := "fillInStackTrace", desc := "()Ljava/lang/Throwable;" } : Jvm.MethodName)) ∈ lw_all := lw_g (lw_at lw_m3 72 rfl) rfl
theorem q711 : (Jvm.Cond.instanceMethod ({ cls := "java/lang/Throwable", name := "fillInStackTrace", desc := "()Ljava/lang/Throwable;" } : Jvm.MethodName)) ∈ lw_all := lw_g (lw_at lw_m3 73 rfl) rfl
theorem q712 : (Jvm.Cond.sameMethod "java/lang/Throwable" "java/lang/Throwable" "fillInStackTrace" "()Ljava/lang/Throwable;") ∈ lw_all := lw_g (lw_at lw_m3 74 rfl) rfl
theorem q713 : (Jvm.Cond.codeSync ({ cls := "java/lang/Throwable", name := "fillInStackTrace", desc := "()Ljava/lang/Throwable;" } : Jvm.MethodName) prog_36_method_18_code (1 : Nat) (Option.some (Jvm.ClassFile.FieldType.object "java/lang/Throwable"))) ∈ lw_all := lw_g (lw_at lw_m3 75 rfl) rfl
theorem q714 : (Jvm.Cond.methodLink "java/lang/Throwable" (202 : Nat) ({ cls := "java/lang/Throwable", name := "fillInStackTrace", desc := "(I)Ljava/lang/Throwable;" } : Jvm.MethodName)) ∈ lw_all := lw_g (lw_at lw_m3 76 rfl) rfl
theorem q715 : (Jvm.Cond.privateMethod ({ cls := "java/lang/Throwable", name := "fillInStackTrace", desc := "(I)Ljava/lang/Throwable;" } : Jvm.MethodName)) ∈ lw_tbl := lw_at lw_m3 77 rfl
theorem q716 : (Jvm.Cond.instanceMethod ({ cls := "java/lang/Throwable", name := "fillInStackTrace", desc := "(I)Ljava/lang/Throwable;" } : Jvm.MethodName)) ∈ lw_all := lw_g (lw_at lw_m3 78 rfl) rfl
theorem q717 : (Jvm.Cond.instantiable "java/lang/Throwable" (6 : Nat)) ∈ lw_all := lw_g (lw_at lw_m3 79 rfl) rfl
theorem q718 : (Jvm.Cond.native ({ cls := "java/lang/Throwable", name := "fillInStackTrace", desc := "(I)Ljava/lang/Throwable;" } : Jvm.MethodName)) ∈ lw_all := lw_g (lw_at lw_m3 80 rfl) rfl
theorem q729 : (Jvm.Cond.instanceMethod ({ cls := "java/lang/Throwable", name := "<init>", desc := "(Ljava/lang/String;Ljava/lang/Throwable;ZZ)V" } : Jvm.MethodName)) ∈ lw_all := lw_g (lw_at lw_m3 91 rfl) rfl
theorem q730 : (Jvm.Cond.code ({ cls := "java/lang/Throwable", name := "<init>", desc := "(Ljava/lang/String;Ljava/lang/Throwable;ZZ)V" } : Jvm.MethodName) prog_36_method_5_code (5 : Nat) (Option.none : Option Jvm.ClassFile.FieldType)) ∈ lw_all := lw_g (lw_at lw_m3 92 rfl) rfl
theorem q735 : (Jvm.Cond.fieldLink "java/lang/Throwable" (198 : Nat) "java/lang/Throwable" "backtrace" "Ljava/lang/Object;") ∈ lw_all := lw_g (lw_at lw_m3 97 rfl) rfl
theorem q736 : (Jvm.Cond.fieldLink "java/lang/Throwable" (31 : Nat) "java/lang/Throwable" "detailMessage" "Ljava/lang/String;") ∈ lw_all := lw_g (lw_at lw_m3 98 rfl) rfl
theorem q737 : (Jvm.Cond.fieldLink "java/lang/Throwable" (7 : Nat) "java/lang/Throwable" "cause" "Ljava/lang/Throwable;") ∈ lw_all := lw_g (lw_at lw_m3 99 rfl) rfl
theorem q738 : (Jvm.Cond.fieldLink "java/lang/Throwable" (17 : Nat) "java/lang/Throwable" "stackTrace" "[Ljava/lang/StackTraceElement;") ∈ lw_all := lw_g (lw_at lw_m3 100 rfl) rfl
theorem q739 : (Jvm.Cond.fieldLink "java/lang/Throwable" (24 : Nat) "java/lang/Throwable" "suppressedExceptions" "Ljava/util/List;") ∈ lw_all := lw_g (lw_at lw_m3 101 rfl) rfl
theorem q744 : (Jvm.Cond.soleField "java/lang/Throwable" "backtrace") ∈ lw_all := lw_g (lw_at lw_m3 106 rfl) rfl
theorem q745 : (Jvm.Cond.soleField "java/lang/Throwable" "detailMessage") ∈ lw_all := lw_g (lw_at lw_m3 107 rfl) rfl
theorem q746 : (Jvm.Cond.soleField "java/lang/Throwable" "cause") ∈ lw_all := lw_g (lw_at lw_m3 108 rfl) rfl
theorem q747 : (Jvm.Cond.soleField "java/lang/Throwable" "stackTrace") ∈ lw_all := lw_g (lw_at lw_m3 109 rfl) rfl
theorem q749 : (Jvm.Cond.soleField "java/lang/Throwable" "depth") ∈ lw_all := lw_g (lw_at lw_m3 111 rfl) rfl
theorem q750 : (Jvm.Cond.soleField "java/lang/Throwable" "suppressedExceptions") ∈ lw_all := lw_g (lw_at lw_m3 112 rfl) rfl
theorem q2283 : (Jvm.Cond.sameMethod "java/lang/Throwable" "java/lang/Throwable" "fillInStackTrace" "(I)Ljava/lang/Throwable;") ∈ lw_all := lw_g (lw_at lw_m9 205 rfl) rfl
theorem q2307 : (Jvm.Cond.castable "java/lang/Throwable" "java/lang/Object") ∈ lw_tbl := lw_at lw_m9 229 rfl
theorem in_J8 : ∀ w ∈ wsJ80, w ∈ lw_all := lw_in wsJ80 [692, 694, 696, 698, 700] (by decide +kernel) (by decide +kernel)

theorem q178 : (Jvm.Cond.initialized "java/lang/Exception") ∈ lw_all := lw_g (lw_at lw_m1 20 rfl) rfl
theorem q685 : (Jvm.Cond.declares ({ cls := "java/lang/Exception", name := "<init>", desc := "()V" } : Jvm.MethodName)) ∈ lw_tbl := lw_at lw_m3 47 rfl
theorem q686 : (Jvm.Cond.declares ({ cls := "java/lang/Exception", name := "<init>", desc := "(Ljava/lang/String;)V" } : Jvm.MethodName)) ∈ lw_tbl := lw_at lw_m3 48 rfl
theorem q726 : (Jvm.Cond.instanceMethod ({ cls := "java/lang/Exception", name := "<init>", desc := "(Ljava/lang/String;Ljava/lang/Throwable;ZZ)V" } : Jvm.MethodName)) ∈ lw_all := lw_g (lw_at lw_m3 88 rfl) rfl
theorem q727 : (Jvm.Cond.code ({ cls := "java/lang/Exception", name := "<init>", desc := "(Ljava/lang/String;Ljava/lang/Throwable;ZZ)V" } : Jvm.MethodName) prog_26_method_5_code (5 : Nat) (Option.none : Option Jvm.ClassFile.FieldType)) ∈ lw_all := lw_g (lw_at lw_m3 89 rfl) rfl
theorem q728 : (Jvm.Cond.methodLink "java/lang/Exception" (16 : Nat) ({ cls := "java/lang/Throwable", name := "<init>", desc := "(Ljava/lang/String;Ljava/lang/Throwable;ZZ)V" } : Jvm.MethodName)) ∈ lw_all := lw_g (lw_at lw_m3 90 rfl) rfl

theorem q179 : (Jvm.Cond.initialized "java/lang/RuntimeException") ∈ lw_all := lw_g (lw_at lw_m1 21 rfl) rfl
theorem q683 : (Jvm.Cond.declares ({ cls := "java/lang/RuntimeException", name := "<init>", desc := "()V" } : Jvm.MethodName)) ∈ lw_tbl := lw_at lw_m3 45 rfl
theorem q684 : (Jvm.Cond.declares ({ cls := "java/lang/RuntimeException", name := "<init>", desc := "(Ljava/lang/String;)V" } : Jvm.MethodName)) ∈ lw_tbl := lw_at lw_m3 46 rfl
theorem q723 : (Jvm.Cond.instanceMethod ({ cls := "java/lang/RuntimeException", name := "<init>", desc := "(Ljava/lang/String;Ljava/lang/Throwable;ZZ)V" } : Jvm.MethodName)) ∈ lw_all := lw_g (lw_at lw_m3 85 rfl) rfl
theorem q724 : (Jvm.Cond.code ({ cls := "java/lang/RuntimeException", name := "<init>", desc := "(Ljava/lang/String;Ljava/lang/Throwable;ZZ)V" } : Jvm.MethodName) prog_31_method_5_code (5 : Nat) (Option.none : Option Jvm.ClassFile.FieldType)) ∈ lw_all := lw_g (lw_at lw_m3 86 rfl) rfl
theorem q725 : (Jvm.Cond.methodLink "java/lang/RuntimeException" (16 : Nat) ({ cls := "java/lang/Exception", name := "<init>", desc := "(Ljava/lang/String;Ljava/lang/Throwable;ZZ)V" } : Jvm.MethodName)) ∈ lw_all := lw_g (lw_at lw_m3 87 rfl) rfl

theorem q180 : (Jvm.Cond.initialized "StiltTown$Fault") ∈ lw_all := lw_g (lw_at lw_m1 22 rfl) rfl
theorem q681 : (Jvm.Cond.instantiable "StiltTown$Fault" (8 : Nat)) ∈ lw_all := lw_g (lw_at lw_m3 43 rfl) rfl
theorem q682 : (Jvm.Cond.castable "StiltTown$Fault" "StiltTown$Fault") ∈ lw_tbl := lw_at lw_m3 44 rfl
theorem q689 : (Jvm.Cond.selects "StiltTown$Fault" ({ cls := "java/lang/Throwable", name := "fillInStackTrace", desc := "(I)Ljava/lang/Throwable;" } : Jvm.MethodName) ({ cls := "java/lang/Throwable", name := "fillInStackTrace", desc := "(I)Ljava/lang/Throwable;" } : Jvm.MethodName)) ∈ lw_all := lw_g (lw_at lw_m3 51 rfl) rfl
theorem q690 : (Jvm.Cond.selects "StiltTown$Fault" ({ cls := "java/lang/Throwable", name := "fillInStackTrace", desc := "()Ljava/lang/Throwable;" } : Jvm.MethodName) ({ cls := "java/lang/Throwable", name := "fillInStackTrace", desc := "()Ljava/lang/Throwable;" } : Jvm.MethodName)) ∈ lw_all := lw_g (lw_at lw_m3 52 rfl) rfl
theorem q691 : (Jvm.Cond.lays "StiltTown$Fault" "java/lang/Throwable" "cause" "Ljava/lang/Throwable;") ∈ lw_all := lw_g (lw_at lw_m3 53 rfl) rfl
theorem q693 : (Jvm.Cond.lays "StiltTown$Fault" "java/lang/Throwable" "stackTrace" "[Ljava/lang/StackTraceElement;") ∈ lw_all := lw_g (lw_at lw_m3 55 rfl) rfl
theorem q695 : (Jvm.Cond.lays "StiltTown$Fault" "java/lang/Throwable" "suppressedExceptions" "Ljava/util/List;") ∈ lw_all := lw_g (lw_at lw_m3 57 rfl) rfl
theorem q697 : (Jvm.Cond.lays "StiltTown$Fault" "java/lang/Throwable" "detailMessage" "Ljava/lang/String;") ∈ lw_all := lw_g (lw_at lw_m3 59 rfl) rfl
theorem q699 : (Jvm.Cond.lays "StiltTown$Fault" "java/lang/Throwable" "backtrace" "Ljava/lang/Object;") ∈ lw_all := lw_g (lw_at lw_m3 61 rfl) rfl
theorem q720 : (Jvm.Cond.instanceMethod ({ cls := "StiltTown$Fault", name := "<init>", desc := "(II)V" } : Jvm.MethodName)) ∈ lw_all := lw_g (lw_at lw_m3 82 rfl) rfl
theorem q721 : (Jvm.Cond.code ({ cls := "StiltTown$Fault", name := "<init>", desc := "(II)V" } : Jvm.MethodName) prog_3_method_1_code (3 : Nat) (Option.none : Option Jvm.ClassFile.FieldType)) ∈ lw_all := lw_g (lw_at lw_m3 83 rfl) rfl
theorem q722 : (Jvm.Cond.methodLink "StiltTown$Fault" (1 : Nat) ({ cls := "java/lang/RuntimeException", name := "<init>", desc := "(Ljava/lang/String;Ljava/lang/Throwable;ZZ)V" } : Jvm.MethodName)) ∈ lw_all := lw_g (lw_at lw_m3 84 rfl) rfl
theorem q731 : (Jvm.Cond.fieldLink "StiltTown$Fault" (7 : Nat) "StiltTown$Fault" "kind" "I") ∈ lw_all := lw_g (lw_at lw_m3 93 rfl) rfl
theorem q733 : (Jvm.Cond.fieldLink "StiltTown$Fault" (13 : Nat) "StiltTown$Fault" "place" "I") ∈ lw_all := lw_g (lw_at lw_m3 95 rfl) rfl
theorem q740 : (Jvm.Cond.laysFinal "StiltTown$Fault" "StiltTown$Fault" "kind" "I") ∈ lw_all := lw_g (lw_at lw_m3 102 rfl) rfl
theorem q741 : (Jvm.Cond.soleField "StiltTown$Fault" "kind") ∈ lw_all := lw_g (lw_at lw_m3 103 rfl) rfl
theorem q742 : (Jvm.Cond.laysFinal "StiltTown$Fault" "StiltTown$Fault" "place" "I") ∈ lw_all := lw_g (lw_at lw_m3 104 rfl) rfl
theorem q743 : (Jvm.Cond.soleField "StiltTown$Fault" "place") ∈ lw_all := lw_g (lw_at lw_m3 105 rfl) rfl
theorem q748 : (Jvm.Cond.lays "StiltTown$Fault" "java/lang/Throwable" "depth" "I") ∈ lw_all := lw_g (lw_at lw_m3 110 rfl) rfl
theorem q751 : (Jvm.Cond.superclass "StiltTown$Fault" "java/lang/RuntimeException") ∈ lw_all := lw_g (lw_at lw_m3 113 rfl) rfl
theorem q830 : (Jvm.Cond.selects "StiltTown$Fault" ({ cls := "java/lang/Object", name := "getClass", desc := "()Ljava/lang/Class;" } : Jvm.MethodName) ({ cls := "java/lang/Object", name := "getClass", desc := "()Ljava/lang/Class;" } : Jvm.MethodName)) ∈ lw_all := lw_g (lw_at lw_m3 192 rfl) rfl
theorem q2297 : (Jvm.Cond.castable "StiltTown$Fault" "java/lang/Object") ∈ lw_tbl := lw_at lw_m9 219 rfl
theorem in_X10 : ∀ w ∈ wsX100, w ∈ lw_all := lw_in wsX100 [691, 693, 695, 697, 699, 748, 740, 742] (by decide +kernel) (by decide +kernel)

theorem q181 : (Jvm.Cond.initialized "StiltTown$House") ∈ lw_all := lw_g (lw_at lw_m1 23 rfl) rfl
theorem q778 : (Jvm.Cond.instantiable "StiltTown$House" (3 : Nat)) ∈ lw_all := lw_g (lw_at lw_m3 140 rfl) rfl
theorem q780 : (Jvm.Cond.instanceMethod ({ cls := "StiltTown$House", name := "<init>", desc := "(III)V" } : Jvm.MethodName)) ∈ lw_all := lw_g (lw_at lw_m3 142 rfl) rfl
theorem q781 : (Jvm.Cond.code ({ cls := "StiltTown$House", name := "<init>", desc := "(III)V" } : Jvm.MethodName) prog_4_method_1_code (4 : Nat) (Option.none : Option Jvm.ClassFile.FieldType)) ∈ lw_all := lw_g (lw_at lw_m3 143 rfl) rfl
theorem q782 : (Jvm.Cond.methodLink "StiltTown$House" (1 : Nat) ({ cls := "java/lang/Record", name := "<init>", desc := "()V" } : Jvm.MethodName)) ∈ lw_all := lw_g (lw_at lw_m3 144 rfl) rfl
theorem q783 : (Jvm.Cond.fieldLink "StiltTown$House" (7 : Nat) "StiltTown$House" "x" "I") ∈ lw_all := lw_g (lw_at lw_m3 145 rfl) rfl
theorem q785 : (Jvm.Cond.fieldLink "StiltTown$House" (13 : Nat) "StiltTown$House" "height" "I") ∈ lw_all := lw_g (lw_at lw_m3 147 rfl) rfl
theorem q787 : (Jvm.Cond.fieldLink "StiltTown$House" (16 : Nat) "StiltTown$House" "load" "I") ∈ lw_all := lw_g (lw_at lw_m3 149 rfl) rfl
theorem q789 : (Jvm.Cond.laysFinal "StiltTown$House" "StiltTown$House" "x" "I") ∈ lw_all := lw_g (lw_at lw_m3 151 rfl) rfl
theorem q790 : (Jvm.Cond.soleField "StiltTown$House" "x") ∈ lw_all := lw_g (lw_at lw_m3 152 rfl) rfl
theorem q791 : (Jvm.Cond.laysFinal "StiltTown$House" "StiltTown$House" "height" "I") ∈ lw_all := lw_g (lw_at lw_m3 153 rfl) rfl
theorem q792 : (Jvm.Cond.soleField "StiltTown$House" "height") ∈ lw_all := lw_g (lw_at lw_m3 154 rfl) rfl
theorem q793 : (Jvm.Cond.laysFinal "StiltTown$House" "StiltTown$House" "load" "I") ∈ lw_all := lw_g (lw_at lw_m3 155 rfl) rfl
theorem q794 : (Jvm.Cond.soleField "StiltTown$House" "load") ∈ lw_all := lw_g (lw_at lw_m3 156 rfl) rfl
theorem q795 : (Jvm.Cond.superclass "StiltTown$House" "java/lang/Record") ∈ lw_all := lw_g (lw_at lw_m3 157 rfl) rfl
theorem q831 : (Jvm.Cond.selects "StiltTown$House" ({ cls := "java/lang/Object", name := "getClass", desc := "()Ljava/lang/Class;" } : Jvm.MethodName) ({ cls := "java/lang/Object", name := "getClass", desc := "()Ljava/lang/Class;" } : Jvm.MethodName)) ∈ lw_all := lw_g (lw_at lw_m3 193 rfl) rfl
theorem q2298 : (Jvm.Cond.castable "StiltTown$House" "java/lang/Object") ∈ lw_tbl := lw_at lw_m9 220 rfl
theorem in_X11 : ∀ w ∈ wsX110, w ∈ lw_all := lw_in wsX110 [789, 791, 793] (by decide +kernel) (by decide +kernel)

theorem q182 : (Jvm.Cond.initialized "jdk/internal/util/ArraysSupport") ∈ lw_all := lw_g (lw_at lw_m1 24 rfl) rfl
theorem q813 : (Jvm.Cond.static ({ cls := "jdk/internal/util/ArraysSupport", name := "newLength", desc := "(III)I" } : Jvm.MethodName)) ∈ lw_all := lw_g (lw_at lw_m3 175 rfl) rfl
theorem q814 : (Jvm.Cond.code ({ cls := "jdk/internal/util/ArraysSupport", name := "newLength", desc := "(III)I" } : Jvm.MethodName) prog_46_method_27_code (4 : Nat) (Option.some Jvm.ClassFile.FieldType.int)) ∈ lw_all := lw_g (lw_at lw_m3 176 rfl) rfl
theorem q815 : (Jvm.Cond.methodLink "jdk/internal/util/ArraysSupport" (194 : Nat) ({ cls := "java/lang/Math", name := "max", desc := "(II)I" } : Jvm.MethodName)) ∈ lw_all := lw_g (lw_at lw_m3 177 rfl) rfl
theorem q818 : (Jvm.Cond.constant "jdk/internal/util/ArraysSupport" (200 : Nat) (2147483639 : Int32)) ∈ lw_all := lw_g (lw_at lw_m3 180 rfl) rfl
theorem q819 : (Jvm.Cond.methodLink "jdk/internal/util/ArraysSupport" (201 : Nat) ({ cls := "jdk/internal/util/ArraysSupport", name := "hugeLength", desc := "(II)I" } : Jvm.MethodName)) ∈ lw_all := lw_g (lw_at lw_m3 181 rfl) rfl
theorem q820 : (Jvm.Cond.static ({ cls := "jdk/internal/util/ArraysSupport", name := "hugeLength", desc := "(II)I" } : Jvm.MethodName)) ∈ lw_all := lw_g (lw_at lw_m3 182 rfl) rfl
theorem q821 : (Jvm.Cond.code ({ cls := "jdk/internal/util/ArraysSupport", name := "hugeLength", desc := "(II)I" } : Jvm.MethodName) prog_46_method_28_code (3 : Nat) (Option.some Jvm.ClassFile.FieldType.int)) ∈ lw_all := lw_g (lw_at lw_m3 183 rfl) rfl

theorem q183 : (Jvm.Cond.initialized "java/lang/Math") ∈ lw_all := lw_g (lw_at lw_m1 25 rfl) rfl
theorem q816 : (Jvm.Cond.static ({ cls := "java/lang/Math", name := "max", desc := "(II)I" } : Jvm.MethodName)) ∈ lw_all := lw_g (lw_at lw_m3 178 rfl) rfl
theorem q817 : (Jvm.Cond.code ({ cls := "java/lang/Math", name := "max", desc := "(II)I" } : Jvm.MethodName) prog_29_method_65_code (2 : Nat) (Option.some Jvm.ClassFile.FieldType.int)) ∈ lw_all := lw_g (lw_at lw_m3 179 rfl) rfl
theorem q857 : (Jvm.Cond.static ({ cls := "java/lang/Math", name := "min", desc := "(II)I" } : Jvm.MethodName)) ∈ lw_all := lw_g (lw_at lw_m3 219 rfl) rfl
theorem q858 : (Jvm.Cond.code ({ cls := "java/lang/Math", name := "min", desc := "(II)I" } : Jvm.MethodName) prog_29_method_69_code (2 : Nat) (Option.some Jvm.ClassFile.FieldType.int)) ∈ lw_all := lw_g (lw_at lw_m3 220 rfl) rfl
theorem q1138 : (Jvm.Cond.static ({ cls := "java/lang/Math", name := "abs", desc := "(I)I" } : Jvm.MethodName)) ∈ lw_all := lw_g (lw_at lw_m5 20 rfl) rfl
theorem q1139 : (Jvm.Cond.code ({ cls := "java/lang/Math", name := "abs", desc := "(I)I" } : Jvm.MethodName) prog_29_method_59_code (1 : Nat) (Option.some Jvm.ClassFile.FieldType.int)) ∈ lw_all := lw_g (lw_at lw_m5 21 rfl) rfl

theorem q184 : (Jvm.Cond.initialized "java/util/Arrays") ∈ lw_all := lw_g (lw_at lw_m1 26 rfl) rfl
theorem q823 : (Jvm.Cond.static ({ cls := "java/util/Arrays", name := "copyOf", desc := "([Ljava/lang/Object;I)[Ljava/lang/Object;" } : Jvm.MethodName)) ∈ lw_all := lw_g (lw_at lw_m3 185 rfl) rfl
theorem q824 : (Jvm.Cond.code ({ cls := "java/util/Arrays", name := "copyOf", desc := "([Ljava/lang/Object;I)[Ljava/lang/Object;" } : Jvm.MethodName) prog_40_method_119_code (2 : Nat) (Option.some (Jvm.ClassFile.FieldType.array (Jvm.ClassFile.FieldType.object "java/lang/Object")))) ∈ lw_all := lw_g (lw_at lw_m3 186 rfl) rfl
theorem q825 : (Jvm.Cond.methodLink "java/util/Arrays" (86 : Nat) ({ cls := "java/lang/Object", name := "getClass", desc := "()Ljava/lang/Class;" } : Jvm.MethodName)) ∈ lw_all := lw_g (lw_at lw_m3 187 rfl) rfl
theorem q850 : (Jvm.Cond.methodLink "java/util/Arrays" (300 : Nat) ({ cls := "java/util/Arrays", name := "copyOf", desc := "([Ljava/lang/Object;ILjava/lang/Class;)[Ljava/lang/Object;" } : Jvm.MethodName)) ∈ lw_all := lw_g (lw_at lw_m3 212 rfl) rfl
theorem q851 : (Jvm.Cond.static ({ cls := "java/util/Arrays", name := "copyOf", desc := "([Ljava/lang/Object;ILjava/lang/Class;)[Ljava/lang/Object;" } : Jvm.MethodName)) ∈ lw_all := lw_g (lw_at lw_m3 213 rfl) rfl
theorem q852 : (Jvm.Cond.code ({ cls := "java/util/Arrays", name := "copyOf", desc := "([Ljava/lang/Object;ILjava/lang/Class;)[Ljava/lang/Object;" } : Jvm.MethodName) prog_40_method_120_code (4 : Nat) (Option.some (Jvm.ClassFile.FieldType.array (Jvm.ClassFile.FieldType.object "java/lang/Object")))) ∈ lw_all := lw_g (lw_at lw_m3 214 rfl) rfl
theorem q853 : (Jvm.Cond.classLink "java/util/Arrays" (110 : Nat) "[Ljava/lang/Object;") ∈ lw_all := lw_g (lw_at lw_m3 215 rfl) rfl
theorem q855 : (Jvm.Cond.classLink "java/util/Arrays" (2 : Nat) "java/lang/Object") ∈ lw_all := lw_g (lw_at lw_m3 217 rfl) rfl
theorem q856 : (Jvm.Cond.methodLink "java/util/Arrays" (304 : Nat) ({ cls := "java/lang/Math", name := "min", desc := "(II)I" } : Jvm.MethodName)) ∈ lw_all := lw_g (lw_at lw_m3 218 rfl) rfl
theorem q859 : (Jvm.Cond.methodLink "java/util/Arrays" (150 : Nat) ({ cls := "java/lang/System", name := "arraycopy", desc := "(Ljava/lang/Object;ILjava/lang/Object;II)V" } : Jvm.MethodName)) ∈ lw_all := lw_g (lw_at lw_m3 221 rfl) rfl

theorem q186 : (Jvm.Cond.initialized "StiltTown$Stair") ∈ lw_all := lw_g (lw_at lw_m1 28 rfl) rfl
theorem q840 : (Jvm.Cond.selects "StiltTown$Stair" ({ cls := "java/lang/Object", name := "getClass", desc := "()Ljava/lang/Class;" } : Jvm.MethodName) ({ cls := "java/lang/Object", name := "getClass", desc := "()Ljava/lang/Class;" } : Jvm.MethodName)) ∈ lw_all := lw_g (lw_at lw_m3 202 rfl) rfl
theorem q876 : (Jvm.Cond.instantiable "StiltTown$Stair" (3 : Nat)) ∈ lw_all := lw_g (lw_at lw_m3 238 rfl) rfl
theorem q878 : (Jvm.Cond.instanceMethod ({ cls := "StiltTown$Stair", name := "<init>", desc := "(III)V" } : Jvm.MethodName)) ∈ lw_all := lw_g (lw_at lw_m4 0 rfl) rfl
theorem q879 : (Jvm.Cond.code ({ cls := "StiltTown$Stair", name := "<init>", desc := "(III)V" } : Jvm.MethodName) prog_13_method_1_code (4 : Nat) (Option.none : Option Jvm.ClassFile.FieldType)) ∈ lw_all := lw_g (lw_at lw_m4 1 rfl) rfl
theorem q880 : (Jvm.Cond.methodLink "StiltTown$Stair" (1 : Nat) ({ cls := "java/lang/Record", name := "<init>", desc := "()V" } : Jvm.MethodName)) ∈ lw_all := lw_g (lw_at lw_m4 2 rfl) rfl
theorem q881 : (Jvm.Cond.fieldLink "StiltTown$Stair" (7 : Nat) "StiltTown$Stair" "from" "I") ∈ lw_all := lw_g (lw_at lw_m4 3 rfl) rfl
theorem q883 : (Jvm.Cond.fieldLink "StiltTown$Stair" (13 : Nat) "StiltTown$Stair" "to" "I") ∈ lw_all := lw_g (lw_at lw_m4 5 rfl) rfl
theorem q885 : (Jvm.Cond.fieldLink "StiltTown$Stair" (16 : Nat) "StiltTown$Stair" "reach" "I") ∈ lw_all := lw_g (lw_at lw_m4 7 rfl) rfl
theorem q887 : (Jvm.Cond.laysFinal "StiltTown$Stair" "StiltTown$Stair" "from" "I") ∈ lw_all := lw_g (lw_at lw_m4 9 rfl) rfl
theorem q888 : (Jvm.Cond.soleField "StiltTown$Stair" "from") ∈ lw_all := lw_g (lw_at lw_m4 10 rfl) rfl
theorem q889 : (Jvm.Cond.laysFinal "StiltTown$Stair" "StiltTown$Stair" "to" "I") ∈ lw_all := lw_g (lw_at lw_m4 11 rfl) rfl
theorem q890 : (Jvm.Cond.soleField "StiltTown$Stair" "to") ∈ lw_all := lw_g (lw_at lw_m4 12 rfl) rfl
theorem q891 : (Jvm.Cond.laysFinal "StiltTown$Stair" "StiltTown$Stair" "reach" "I") ∈ lw_all := lw_g (lw_at lw_m4 13 rfl) rfl
theorem q892 : (Jvm.Cond.soleField "StiltTown$Stair" "reach") ∈ lw_all := lw_g (lw_at lw_m4 14 rfl) rfl
theorem q893 : (Jvm.Cond.superclass "StiltTown$Stair" "java/lang/Record") ∈ lw_all := lw_g (lw_at lw_m4 15 rfl) rfl
theorem q1372 : (Jvm.Cond.instanceMethod ({ cls := "StiltTown$Stair", name := "isOf", desc := "(I)Z" } : Jvm.MethodName)) ∈ lw_all := lw_g (lw_at lw_m6 14 rfl) rfl
theorem q1373 : (Jvm.Cond.selects "StiltTown$Stair" ({ cls := "StiltTown$Stair", name := "isOf", desc := "(I)Z" } : Jvm.MethodName) ({ cls := "StiltTown$Stair", name := "isOf", desc := "(I)Z" } : Jvm.MethodName)) ∈ lw_all := lw_g (lw_at lw_m6 15 rfl) rfl
theorem q1374 : (Jvm.Cond.code ({ cls := "StiltTown$Stair", name := "isOf", desc := "(I)Z" } : Jvm.MethodName) prog_13_method_2_code (2 : Nat) (Option.some Jvm.ClassFile.FieldType.boolean)) ∈ lw_all := lw_g (lw_at lw_m6 16 rfl) rfl
theorem q1376 : (Jvm.Cond.instanceMethod ({ cls := "StiltTown$Stair", name := "other", desc := "(I)I" } : Jvm.MethodName)) ∈ lw_all := lw_g (lw_at lw_m6 18 rfl) rfl
theorem q1377 : (Jvm.Cond.selects "StiltTown$Stair" ({ cls := "StiltTown$Stair", name := "other", desc := "(I)I" } : Jvm.MethodName) ({ cls := "StiltTown$Stair", name := "other", desc := "(I)I" } : Jvm.MethodName)) ∈ lw_all := lw_g (lw_at lw_m6 19 rfl) rfl
theorem q1378 : (Jvm.Cond.code ({ cls := "StiltTown$Stair", name := "other", desc := "(I)I" } : Jvm.MethodName) prog_13_method_3_code (2 : Nat) (Option.some Jvm.ClassFile.FieldType.int)) ∈ lw_all := lw_g (lw_at lw_m6 20 rfl) rfl
theorem q2299 : (Jvm.Cond.castable "StiltTown$Stair" "java/lang/Object") ∈ lw_tbl := lw_at lw_m9 221 rfl
theorem in_X12 : ∀ w ∈ wsX120, w ∈ lw_all := lw_in wsX120 [887, 889, 891] (by decide +kernel) (by decide +kernel)

theorem q187 : (Jvm.Cond.initialized "StiltTown$Wood") ∈ lw_all := lw_g (lw_at lw_m1 29 rfl) rfl
theorem q845 : (Jvm.Cond.selects "StiltTown$Wood" ({ cls := "java/lang/Object", name := "getClass", desc := "()Ljava/lang/Class;" } : Jvm.MethodName) ({ cls := "java/lang/Object", name := "getClass", desc := "()Ljava/lang/Class;" } : Jvm.MethodName)) ∈ lw_all := lw_g (lw_at lw_m3 207 rfl) rfl
theorem q895 : (Jvm.Cond.instantiable "StiltTown$Wood" (2 : Nat)) ∈ lw_all := lw_g (lw_at lw_m4 17 rfl) rfl
theorem q897 : (Jvm.Cond.instanceMethod ({ cls := "StiltTown$Wood", name := "<init>", desc := "(II)V" } : Jvm.MethodName)) ∈ lw_all := lw_g (lw_at lw_m4 19 rfl) rfl
theorem q898 : (Jvm.Cond.code ({ cls := "StiltTown$Wood", name := "<init>", desc := "(II)V" } : Jvm.MethodName) prog_20_method_1_code (3 : Nat) (Option.none : Option Jvm.ClassFile.FieldType)) ∈ lw_all := lw_g (lw_at lw_m4 20 rfl) rfl
theorem q899 : (Jvm.Cond.methodLink "StiltTown$Wood" (1 : Nat) ({ cls := "java/lang/Record", name := "<init>", desc := "()V" } : Jvm.MethodName)) ∈ lw_all := lw_g (lw_at lw_m4 21 rfl) rfl
theorem q900 : (Jvm.Cond.fieldLink "StiltTown$Wood" (7 : Nat) "StiltTown$Wood" "length" "I") ∈ lw_all := lw_g (lw_at lw_m4 22 rfl) rfl
theorem q902 : (Jvm.Cond.fieldLink "StiltTown$Wood" (13 : Nat) "StiltTown$Wood" "many" "I") ∈ lw_all := lw_g (lw_at lw_m4 24 rfl) rfl
theorem q904 : (Jvm.Cond.laysFinal "StiltTown$Wood" "StiltTown$Wood" "length" "I") ∈ lw_all := lw_g (lw_at lw_m4 26 rfl) rfl
theorem q905 : (Jvm.Cond.soleField "StiltTown$Wood" "length") ∈ lw_all := lw_g (lw_at lw_m4 27 rfl) rfl
theorem q906 : (Jvm.Cond.laysFinal "StiltTown$Wood" "StiltTown$Wood" "many" "I") ∈ lw_all := lw_g (lw_at lw_m4 28 rfl) rfl
theorem q907 : (Jvm.Cond.soleField "StiltTown$Wood" "many") ∈ lw_all := lw_g (lw_at lw_m4 29 rfl) rfl
theorem q908 : (Jvm.Cond.superclass "StiltTown$Wood" "java/lang/Record") ∈ lw_all := lw_g (lw_at lw_m4 30 rfl) rfl
theorem q2300 : (Jvm.Cond.castable "StiltTown$Wood" "java/lang/Object") ∈ lw_tbl := lw_at lw_m9 222 rfl
theorem in_X13 : ∀ w ∈ wsX130, w ∈ lw_all := lw_in wsX130 [904, 906] (by decide +kernel) (by decide +kernel)

theorem q188 : (Jvm.Cond.initialized "StiltTown$Pair") ∈ lw_all := lw_g (lw_at lw_m1 30 rfl) rfl
theorem q450 : (Jvm.Cond.fieldLinkNest "StiltTown$Pair" (26 : Nat) "StiltTown$View" "broken" "Z" "StiltTown") ∈ lw_tbl := lw_at lw_m2 52 rfl
theorem q836 : (Jvm.Cond.selects "StiltTown$Pair" ({ cls := "java/lang/Object", name := "getClass", desc := "()Ljava/lang/Class;" } : Jvm.MethodName) ({ cls := "java/lang/Object", name := "getClass", desc := "()Ljava/lang/Class;" } : Jvm.MethodName)) ∈ lw_all := lw_g (lw_at lw_m3 198 rfl) rfl
theorem q934 : (Jvm.Cond.instantiable "StiltTown$Pair" (3 : Nat)) ∈ lw_all := lw_g (lw_at lw_m4 56 rfl) rfl
theorem q936 : (Jvm.Cond.instanceMethod ({ cls := "StiltTown$Pair", name := "<init>", desc := "(ILStiltTown$Term;LStiltTown$Term;)V" } : Jvm.MethodName)) ∈ lw_all := lw_g (lw_at lw_m4 58 rfl) rfl
theorem q937 : (Jvm.Cond.code ({ cls := "StiltTown$Pair", name := "<init>", desc := "(ILStiltTown$Term;LStiltTown$Term;)V" } : Jvm.MethodName) prog_9_method_1_code (4 : Nat) (Option.none : Option Jvm.ClassFile.FieldType)) ∈ lw_all := lw_g (lw_at lw_m4 59 rfl) rfl
theorem q938 : (Jvm.Cond.methodLink "StiltTown$Pair" (1 : Nat) ({ cls := "java/lang/Record", name := "<init>", desc := "()V" } : Jvm.MethodName)) ∈ lw_all := lw_g (lw_at lw_m4 60 rfl) rfl
theorem q939 : (Jvm.Cond.fieldLink "StiltTown$Pair" (7 : Nat) "StiltTown$Pair" "sign" "I") ∈ lw_all := lw_g (lw_at lw_m4 61 rfl) rfl
theorem q940 : (Jvm.Cond.fieldLink "StiltTown$Pair" (13 : Nat) "StiltTown$Pair" "left" "LStiltTown$Term;") ∈ lw_all := lw_g (lw_at lw_m4 62 rfl) rfl
theorem q941 : (Jvm.Cond.fieldLink "StiltTown$Pair" (17 : Nat) "StiltTown$Pair" "right" "LStiltTown$Term;") ∈ lw_all := lw_g (lw_at lw_m4 63 rfl) rfl
theorem q942 : (Jvm.Cond.laysFinal "StiltTown$Pair" "StiltTown$Pair" "sign" "I") ∈ lw_all := lw_g (lw_at lw_m4 64 rfl) rfl
theorem q943 : (Jvm.Cond.soleField "StiltTown$Pair" "sign") ∈ lw_all := lw_g (lw_at lw_m4 65 rfl) rfl
theorem q944 : (Jvm.Cond.laysFinal "StiltTown$Pair" "StiltTown$Pair" "left" "LStiltTown$Term;") ∈ lw_all := lw_g (lw_at lw_m4 66 rfl) rfl
theorem q945 : (Jvm.Cond.soleField "StiltTown$Pair" "left") ∈ lw_all := lw_g (lw_at lw_m4 67 rfl) rfl
theorem q946 : (Jvm.Cond.laysFinal "StiltTown$Pair" "StiltTown$Pair" "right" "LStiltTown$Term;") ∈ lw_all := lw_g (lw_at lw_m4 68 rfl) rfl
theorem q947 : (Jvm.Cond.soleField "StiltTown$Pair" "right") ∈ lw_all := lw_g (lw_at lw_m4 69 rfl) rfl
theorem q948 : (Jvm.Cond.superclass "StiltTown$Pair" "java/lang/Record") ∈ lw_all := lw_g (lw_at lw_m4 70 rfl) rfl
theorem q1063 : (Jvm.Cond.castable "StiltTown$Pair" "StiltTown$Term") ∈ lw_tbl := lw_at lw_m4 185 rfl
theorem q1064 : (Jvm.Cond.selects "StiltTown$Pair" ({ cls := "StiltTown$Term", name := "value", desc := "(LStiltTown$View;)I" } : Jvm.MethodName) ({ cls := "StiltTown$Pair", name := "value", desc := "(LStiltTown$View;)I" } : Jvm.MethodName)) ∈ lw_all := lw_g (lw_at lw_m4 186 rfl) rfl
theorem q1065 : (Jvm.Cond.unhidden "StiltTown$Pair" "value" "(LStiltTown$View;)I") ∈ lw_tbl := lw_at lw_m4 187 rfl
theorem q1066 : (Jvm.Cond.instanceMethod ({ cls := "StiltTown$Pair", name := "value", desc := "(LStiltTown$View;)I" } : Jvm.MethodName)) ∈ lw_all := lw_g (lw_at lw_m4 188 rfl) rfl
theorem q1067 : (Jvm.Cond.publicMethod ({ cls := "StiltTown$Pair", name := "value", desc := "(LStiltTown$View;)I" } : Jvm.MethodName)) ∈ lw_tbl := lw_at lw_m4 189 rfl
theorem q1068 : (Jvm.Cond.code ({ cls := "StiltTown$Pair", name := "value", desc := "(LStiltTown$View;)I" } : Jvm.MethodName) prog_9_method_2_code (4 : Nat) (Option.some Jvm.ClassFile.FieldType.int)) ∈ lw_all := lw_g (lw_at lw_m4 190 rfl) rfl
theorem q1069 : (Jvm.Cond.interfaceEntry "StiltTown$Pair" (20 : Nat)) ∈ lw_tbl := lw_at lw_m4 191 rfl
theorem q1070 : (Jvm.Cond.methodLink "StiltTown$Pair" (20 : Nat) ({ cls := "StiltTown$Term", name := "value", desc := "(LStiltTown$View;)I" } : Jvm.MethodName)) ∈ lw_all := lw_g (lw_at lw_m4 192 rfl) rfl
theorem q2301 : (Jvm.Cond.castable "StiltTown$Pair" "java/lang/Object") ∈ lw_tbl := lw_at lw_m9 223 rfl
theorem in_X14 : ∀ w ∈ wsX140, w ∈ lw_all := lw_in wsX140 [942, 944, 946] (by decide +kernel) (by decide +kernel)

theorem q189 : (Jvm.Cond.initialized "StiltTown$Beside") ∈ lw_all := lw_g (lw_at lw_m1 31 rfl) rfl
theorem q449 : (Jvm.Cond.fieldLinkNest "StiltTown$Beside" (20 : Nat) "StiltTown$View" "broken" "Z" "StiltTown") ∈ lw_tbl := lw_at lw_m2 51 rfl
theorem q829 : (Jvm.Cond.selects "StiltTown$Beside" ({ cls := "java/lang/Object", name := "getClass", desc := "()Ljava/lang/Class;" } : Jvm.MethodName) ({ cls := "java/lang/Object", name := "getClass", desc := "()Ljava/lang/Class;" } : Jvm.MethodName)) ∈ lw_all := lw_g (lw_at lw_m3 191 rfl) rfl
theorem q968 : (Jvm.Cond.instantiable "StiltTown$Beside" (3 : Nat)) ∈ lw_all := lw_g (lw_at lw_m4 90 rfl) rfl
theorem q970 : (Jvm.Cond.instanceMethod ({ cls := "StiltTown$Beside", name := "<init>", desc := "(ILStiltTown$Term;LStiltTown$Term;)V" } : Jvm.MethodName)) ∈ lw_all := lw_g (lw_at lw_m4 92 rfl) rfl
theorem q971 : (Jvm.Cond.code ({ cls := "StiltTown$Beside", name := "<init>", desc := "(ILStiltTown$Term;LStiltTown$Term;)V" } : Jvm.MethodName) prog_2_method_1_code (4 : Nat) (Option.none : Option Jvm.ClassFile.FieldType)) ∈ lw_all := lw_g (lw_at lw_m4 93 rfl) rfl
theorem q972 : (Jvm.Cond.methodLink "StiltTown$Beside" (1 : Nat) ({ cls := "java/lang/Record", name := "<init>", desc := "()V" } : Jvm.MethodName)) ∈ lw_all := lw_g (lw_at lw_m4 94 rfl) rfl
theorem q973 : (Jvm.Cond.fieldLink "StiltTown$Beside" (7 : Nat) "StiltTown$Beside" "sign" "I") ∈ lw_all := lw_g (lw_at lw_m4 95 rfl) rfl
theorem q974 : (Jvm.Cond.fieldLink "StiltTown$Beside" (13 : Nat) "StiltTown$Beside" "left" "LStiltTown$Term;") ∈ lw_all := lw_g (lw_at lw_m4 96 rfl) rfl
theorem q975 : (Jvm.Cond.fieldLink "StiltTown$Beside" (17 : Nat) "StiltTown$Beside" "right" "LStiltTown$Term;") ∈ lw_all := lw_g (lw_at lw_m4 97 rfl) rfl
theorem q976 : (Jvm.Cond.laysFinal "StiltTown$Beside" "StiltTown$Beside" "sign" "I") ∈ lw_all := lw_g (lw_at lw_m4 98 rfl) rfl
theorem q977 : (Jvm.Cond.soleField "StiltTown$Beside" "sign") ∈ lw_all := lw_g (lw_at lw_m4 99 rfl) rfl
theorem q978 : (Jvm.Cond.laysFinal "StiltTown$Beside" "StiltTown$Beside" "left" "LStiltTown$Term;") ∈ lw_all := lw_g (lw_at lw_m4 100 rfl) rfl
theorem q979 : (Jvm.Cond.soleField "StiltTown$Beside" "left") ∈ lw_all := lw_g (lw_at lw_m4 101 rfl) rfl
theorem q980 : (Jvm.Cond.laysFinal "StiltTown$Beside" "StiltTown$Beside" "right" "LStiltTown$Term;") ∈ lw_all := lw_g (lw_at lw_m4 102 rfl) rfl
theorem q981 : (Jvm.Cond.soleField "StiltTown$Beside" "right") ∈ lw_all := lw_g (lw_at lw_m4 103 rfl) rfl
theorem q982 : (Jvm.Cond.superclass "StiltTown$Beside" "java/lang/Record") ∈ lw_all := lw_g (lw_at lw_m4 104 rfl) rfl
theorem q1207 : (Jvm.Cond.castable "StiltTown$Beside" "StiltTown$Test") ∈ lw_tbl := lw_at lw_m5 89 rfl
theorem q1208 : (Jvm.Cond.selects "StiltTown$Beside" ({ cls := "StiltTown$Test", name := "holds", desc := "(LStiltTown$View;)Z" } : Jvm.MethodName) ({ cls := "StiltTown$Beside", name := "holds", desc := "(LStiltTown$View;)Z" } : Jvm.MethodName)) ∈ lw_all := lw_g (lw_at lw_m5 90 rfl) rfl
theorem q1209 : (Jvm.Cond.unhidden "StiltTown$Beside" "holds" "(LStiltTown$View;)Z") ∈ lw_tbl := lw_at lw_m5 91 rfl
theorem q1210 : (Jvm.Cond.instanceMethod ({ cls := "StiltTown$Beside", name := "holds", desc := "(LStiltTown$View;)Z" } : Jvm.MethodName)) ∈ lw_all := lw_g (lw_at lw_m5 92 rfl) rfl
theorem q1211 : (Jvm.Cond.publicMethod ({ cls := "StiltTown$Beside", name := "holds", desc := "(LStiltTown$View;)Z" } : Jvm.MethodName)) ∈ lw_tbl := lw_at lw_m5 93 rfl
theorem q1212 : (Jvm.Cond.code ({ cls := "StiltTown$Beside", name := "holds", desc := "(LStiltTown$View;)Z" } : Jvm.MethodName) prog_2_method_2_code (4 : Nat) (Option.some Jvm.ClassFile.FieldType.boolean)) ∈ lw_all := lw_g (lw_at lw_m5 94 rfl) rfl
theorem q1213 : (Jvm.Cond.interfaceEntry "StiltTown$Beside" (26 : Nat)) ∈ lw_tbl := lw_at lw_m5 95 rfl
theorem q1214 : (Jvm.Cond.methodLink "StiltTown$Beside" (26 : Nat) ({ cls := "StiltTown$Term", name := "value", desc := "(LStiltTown$View;)I" } : Jvm.MethodName)) ∈ lw_all := lw_g (lw_at lw_m5 96 rfl) rfl
theorem q2302 : (Jvm.Cond.castable "StiltTown$Beside" "java/lang/Object") ∈ lw_tbl := lw_at lw_m9 224 rfl
theorem in_X15 : ∀ w ∈ wsX150, w ∈ lw_all := lw_in wsX150 [976, 978, 980] (by decide +kernel) (by decide +kernel)

theorem q190 : (Jvm.Cond.initialized "StiltTown$Not") ∈ lw_all := lw_g (lw_at lw_m1 32 rfl) rfl
theorem q835 : (Jvm.Cond.selects "StiltTown$Not" ({ cls := "java/lang/Object", name := "getClass", desc := "()Ljava/lang/Class;" } : Jvm.MethodName) ({ cls := "java/lang/Object", name := "getClass", desc := "()Ljava/lang/Class;" } : Jvm.MethodName)) ∈ lw_all := lw_g (lw_at lw_m3 197 rfl) rfl
theorem q984 : (Jvm.Cond.instantiable "StiltTown$Not" (1 : Nat)) ∈ lw_all := lw_g (lw_at lw_m4 106 rfl) rfl
theorem q986 : (Jvm.Cond.instanceMethod ({ cls := "StiltTown$Not", name := "<init>", desc := "(LStiltTown$Test;)V" } : Jvm.MethodName)) ∈ lw_all := lw_g (lw_at lw_m4 108 rfl) rfl
theorem q987 : (Jvm.Cond.code ({ cls := "StiltTown$Not", name := "<init>", desc := "(LStiltTown$Test;)V" } : Jvm.MethodName) prog_8_method_1_code (2 : Nat) (Option.none : Option Jvm.ClassFile.FieldType)) ∈ lw_all := lw_g (lw_at lw_m4 109 rfl) rfl
theorem q988 : (Jvm.Cond.methodLink "StiltTown$Not" (1 : Nat) ({ cls := "java/lang/Record", name := "<init>", desc := "()V" } : Jvm.MethodName)) ∈ lw_all := lw_g (lw_at lw_m4 110 rfl) rfl
theorem q989 : (Jvm.Cond.fieldLink "StiltTown$Not" (7 : Nat) "StiltTown$Not" "of" "LStiltTown$Test;") ∈ lw_all := lw_g (lw_at lw_m4 111 rfl) rfl
theorem q990 : (Jvm.Cond.laysFinal "StiltTown$Not" "StiltTown$Not" "of" "LStiltTown$Test;") ∈ lw_all := lw_g (lw_at lw_m4 112 rfl) rfl
theorem q991 : (Jvm.Cond.soleField "StiltTown$Not" "of") ∈ lw_all := lw_g (lw_at lw_m4 113 rfl) rfl
theorem q992 : (Jvm.Cond.superclass "StiltTown$Not" "java/lang/Record") ∈ lw_all := lw_g (lw_at lw_m4 114 rfl) rfl
theorem q1226 : (Jvm.Cond.castable "StiltTown$Not" "StiltTown$Test") ∈ lw_tbl := lw_at lw_m5 108 rfl
theorem q1227 : (Jvm.Cond.selects "StiltTown$Not" ({ cls := "StiltTown$Test", name := "holds", desc := "(LStiltTown$View;)Z" } : Jvm.MethodName) ({ cls := "StiltTown$Not", name := "holds", desc := "(LStiltTown$View;)Z" } : Jvm.MethodName)) ∈ lw_all := lw_g (lw_at lw_m5 109 rfl) rfl
theorem q1228 : (Jvm.Cond.unhidden "StiltTown$Not" "holds" "(LStiltTown$View;)Z") ∈ lw_tbl := lw_at lw_m5 110 rfl
theorem q1229 : (Jvm.Cond.instanceMethod ({ cls := "StiltTown$Not", name := "holds", desc := "(LStiltTown$View;)Z" } : Jvm.MethodName)) ∈ lw_all := lw_g (lw_at lw_m5 111 rfl) rfl
theorem q1230 : (Jvm.Cond.publicMethod ({ cls := "StiltTown$Not", name := "holds", desc := "(LStiltTown$View;)Z" } : Jvm.MethodName)) ∈ lw_tbl := lw_at lw_m5 112 rfl
theorem q1231 : (Jvm.Cond.code ({ cls := "StiltTown$Not", name := "holds", desc := "(LStiltTown$View;)Z" } : Jvm.MethodName) prog_8_method_2_code (2 : Nat) (Option.some Jvm.ClassFile.FieldType.boolean)) ∈ lw_all := lw_g (lw_at lw_m5 113 rfl) rfl
theorem q1232 : (Jvm.Cond.interfaceEntry "StiltTown$Not" (13 : Nat)) ∈ lw_tbl := lw_at lw_m5 114 rfl
theorem q1233 : (Jvm.Cond.methodLink "StiltTown$Not" (13 : Nat) ({ cls := "StiltTown$Test", name := "holds", desc := "(LStiltTown$View;)Z" } : Jvm.MethodName)) ∈ lw_all := lw_g (lw_at lw_m5 115 rfl) rfl
theorem q2303 : (Jvm.Cond.castable "StiltTown$Not" "java/lang/Object") ∈ lw_tbl := lw_at lw_m9 225 rfl
theorem in_X16 : ∀ w ∈ wsX160, w ∈ lw_all := lw_in wsX160 [990] (by decide +kernel) (by decide +kernel)

theorem q191 : (Jvm.Cond.initialized "StiltTown$Many") ∈ lw_all := lw_g (lw_at lw_m1 33 rfl) rfl
theorem q834 : (Jvm.Cond.selects "StiltTown$Many" ({ cls := "java/lang/Object", name := "getClass", desc := "()Ljava/lang/Class;" } : Jvm.MethodName) ({ cls := "java/lang/Object", name := "getClass", desc := "()Ljava/lang/Class;" } : Jvm.MethodName)) ∈ lw_all := lw_g (lw_at lw_m3 196 rfl) rfl
theorem q994 : (Jvm.Cond.instantiable "StiltTown$Many" (2 : Nat)) ∈ lw_all := lw_g (lw_at lw_m4 116 rfl) rfl
theorem q996 : (Jvm.Cond.instanceMethod ({ cls := "StiltTown$Many", name := "<init>", desc := "(ZLjava/util/ArrayList;)V" } : Jvm.MethodName)) ∈ lw_all := lw_g (lw_at lw_m4 118 rfl) rfl
theorem q997 : (Jvm.Cond.code ({ cls := "StiltTown$Many", name := "<init>", desc := "(ZLjava/util/ArrayList;)V" } : Jvm.MethodName) prog_7_method_1_code (3 : Nat) (Option.none : Option Jvm.ClassFile.FieldType)) ∈ lw_all := lw_g (lw_at lw_m4 119 rfl) rfl
theorem q998 : (Jvm.Cond.methodLink "StiltTown$Many" (1 : Nat) ({ cls := "java/lang/Record", name := "<init>", desc := "()V" } : Jvm.MethodName)) ∈ lw_all := lw_g (lw_at lw_m4 120 rfl) rfl
theorem q999 : (Jvm.Cond.fieldLink "StiltTown$Many" (7 : Nat) "StiltTown$Many" "all" "Z") ∈ lw_all := lw_g (lw_at lw_m4 121 rfl) rfl
theorem q1000 : (Jvm.Cond.fieldLink "StiltTown$Many" (13 : Nat) "StiltTown$Many" "of" "Ljava/util/ArrayList;") ∈ lw_all := lw_g (lw_at lw_m4 122 rfl) rfl
theorem q1001 : (Jvm.Cond.laysFinal "StiltTown$Many" "StiltTown$Many" "all" "Z") ∈ lw_all := lw_g (lw_at lw_m4 123 rfl) rfl
theorem q1002 : (Jvm.Cond.soleField "StiltTown$Many" "all") ∈ lw_all := lw_g (lw_at lw_m4 124 rfl) rfl
theorem q1003 : (Jvm.Cond.laysFinal "StiltTown$Many" "StiltTown$Many" "of" "Ljava/util/ArrayList;") ∈ lw_all := lw_g (lw_at lw_m4 125 rfl) rfl
theorem q1004 : (Jvm.Cond.soleField "StiltTown$Many" "of") ∈ lw_all := lw_g (lw_at lw_m4 126 rfl) rfl
theorem q1005 : (Jvm.Cond.superclass "StiltTown$Many" "java/lang/Record") ∈ lw_all := lw_g (lw_at lw_m4 127 rfl) rfl
theorem q1215 : (Jvm.Cond.castable "StiltTown$Many" "StiltTown$Test") ∈ lw_tbl := lw_at lw_m5 97 rfl
theorem q1216 : (Jvm.Cond.selects "StiltTown$Many" ({ cls := "StiltTown$Test", name := "holds", desc := "(LStiltTown$View;)Z" } : Jvm.MethodName) ({ cls := "StiltTown$Many", name := "holds", desc := "(LStiltTown$View;)Z" } : Jvm.MethodName)) ∈ lw_all := lw_g (lw_at lw_m5 98 rfl) rfl
theorem q1217 : (Jvm.Cond.unhidden "StiltTown$Many" "holds" "(LStiltTown$View;)Z") ∈ lw_tbl := lw_at lw_m5 99 rfl
theorem q1218 : (Jvm.Cond.instanceMethod ({ cls := "StiltTown$Many", name := "holds", desc := "(LStiltTown$View;)Z" } : Jvm.MethodName)) ∈ lw_all := lw_g (lw_at lw_m5 100 rfl) rfl
theorem q1219 : (Jvm.Cond.publicMethod ({ cls := "StiltTown$Many", name := "holds", desc := "(LStiltTown$View;)Z" } : Jvm.MethodName)) ∈ lw_tbl := lw_at lw_m5 101 rfl
theorem q1220 : (Jvm.Cond.code ({ cls := "StiltTown$Many", name := "holds", desc := "(LStiltTown$View;)Z" } : Jvm.MethodName) prog_7_method_2_code (4 : Nat) (Option.some Jvm.ClassFile.FieldType.boolean)) ∈ lw_all := lw_g (lw_at lw_m5 102 rfl) rfl
theorem q1221 : (Jvm.Cond.methodLink "StiltTown$Many" (17 : Nat) ({ cls := "java/util/ArrayList", name := "size", desc := "()I" } : Jvm.MethodName)) ∈ lw_all := lw_g (lw_at lw_m5 103 rfl) rfl
theorem q1222 : (Jvm.Cond.methodLink "StiltTown$Many" (23 : Nat) ({ cls := "java/util/ArrayList", name := "get", desc := "(I)Ljava/lang/Object;" } : Jvm.MethodName)) ∈ lw_all := lw_g (lw_at lw_m5 104 rfl) rfl
theorem q1223 : (Jvm.Cond.classLink "StiltTown$Many" (27 : Nat) "StiltTown$Test") ∈ lw_all := lw_g (lw_at lw_m5 105 rfl) rfl
theorem q1224 : (Jvm.Cond.interfaceEntry "StiltTown$Many" (29 : Nat)) ∈ lw_tbl := lw_at lw_m5 106 rfl
theorem q1225 : (Jvm.Cond.methodLink "StiltTown$Many" (29 : Nat) ({ cls := "StiltTown$Test", name := "holds", desc := "(LStiltTown$View;)Z" } : Jvm.MethodName)) ∈ lw_all := lw_g (lw_at lw_m5 107 rfl) rfl
theorem q2304 : (Jvm.Cond.castable "StiltTown$Many" "java/lang/Object") ∈ lw_tbl := lw_at lw_m9 226 rfl
theorem in_X17 : ∀ w ∈ wsX170, w ∈ lw_all := lw_in wsX170 [1001, 1003] (by decide +kernel) (by decide +kernel)

theorem q192 : (Jvm.Cond.initialized "java/util/Objects") ∈ lw_all := lw_g (lw_at lw_m1 34 rfl) rfl
theorem q1012 : (Jvm.Cond.static ({ cls := "java/util/Objects", name := "checkIndex", desc := "(II)I" } : Jvm.MethodName)) ∈ lw_all := lw_g (lw_at lw_m4 134 rfl) rfl
theorem q1013 : (Jvm.Cond.code ({ cls := "java/util/Objects", name := "checkIndex", desc := "(II)I" } : Jvm.MethodName) prog_43_method_17_code (2 : Nat) (Option.some Jvm.ClassFile.FieldType.int)) ∈ lw_all := lw_g (lw_at lw_m4 135 rfl) rfl
theorem q1014 : (Jvm.Cond.methodLink "java/util/Objects" (105 : Nat) ({ cls := "jdk/internal/util/Preconditions", name := "checkIndex", desc := "(IILjava/util/function/BiFunction;)I" } : Jvm.MethodName)) ∈ lw_all := lw_g (lw_at lw_m4 136 rfl) rfl

theorem q193 : (Jvm.Cond.initialized "java/lang/Integer") ∈ lw_all := lw_g (lw_at lw_m1 35 rfl) rfl
theorem q1169 : (Jvm.Cond.static ({ cls := "java/lang/Integer", name := "bitCount", desc := "(I)I" } : Jvm.MethodName)) ∈ lw_all := lw_g (lw_at lw_m5 51 rfl) rfl
theorem q1170 : (Jvm.Cond.code ({ cls := "java/lang/Integer", name := "bitCount", desc := "(I)I" } : Jvm.MethodName) prog_27_method_49_code (1 : Nat) (Option.some Jvm.ClassFile.FieldType.int)) ∈ lw_all := lw_g (lw_at lw_m5 52 rfl) rfl
theorem q1171 : (Jvm.Cond.constant "java/lang/Integer" (265 : Nat) (1431655765 : Int32)) ∈ lw_all := lw_g (lw_at lw_m5 53 rfl) rfl
theorem q1172 : (Jvm.Cond.constant "java/lang/Integer" (266 : Nat) (858993459 : Int32)) ∈ lw_all := lw_g (lw_at lw_m5 54 rfl) rfl
theorem q1173 : (Jvm.Cond.constant "java/lang/Integer" (267 : Nat) (252645135 : Int32)) ∈ lw_all := lw_g (lw_at lw_m5 55 rfl) rfl

theorem q194 : (Jvm.Cond.initialized "StiltTown$Work") ∈ lw_all := lw_g (lw_at lw_m1 36 rfl) rfl
theorem q846 : (Jvm.Cond.selects "StiltTown$Work" ({ cls := "java/lang/Object", name := "getClass", desc := "()Ljava/lang/Class;" } : Jvm.MethodName) ({ cls := "java/lang/Object", name := "getClass", desc := "()Ljava/lang/Class;" } : Jvm.MethodName)) ∈ lw_all := lw_g (lw_at lw_m3 208 rfl) rfl
theorem q1256 : (Jvm.Cond.instantiable "StiltTown$Work" (3 : Nat)) ∈ lw_all := lw_g (lw_at lw_m5 138 rfl) rfl
theorem q1258 : (Jvm.Cond.instanceMethod ({ cls := "StiltTown$Work", name := "<init>", desc := "(III)V" } : Jvm.MethodName)) ∈ lw_all := lw_g (lw_at lw_m5 140 rfl) rfl
theorem q1259 : (Jvm.Cond.code ({ cls := "StiltTown$Work", name := "<init>", desc := "(III)V" } : Jvm.MethodName) prog_21_method_1_code (4 : Nat) (Option.none : Option Jvm.ClassFile.FieldType)) ∈ lw_all := lw_g (lw_at lw_m5 141 rfl) rfl
theorem q1260 : (Jvm.Cond.methodLink "StiltTown$Work" (1 : Nat) ({ cls := "java/lang/Record", name := "<init>", desc := "()V" } : Jvm.MethodName)) ∈ lw_all := lw_g (lw_at lw_m5 142 rfl) rfl
theorem q1261 : (Jvm.Cond.fieldLink "StiltTown$Work" (7 : Nat) "StiltTown$Work" "night" "I") ∈ lw_all := lw_g (lw_at lw_m5 143 rfl) rfl
theorem q1263 : (Jvm.Cond.fieldLink "StiltTown$Work" (13 : Nat) "StiltTown$Work" "house" "I") ∈ lw_all := lw_g (lw_at lw_m5 145 rfl) rfl
theorem q1265 : (Jvm.Cond.fieldLink "StiltTown$Work" (16 : Nat) "StiltTown$Work" "inches" "I") ∈ lw_all := lw_g (lw_at lw_m5 147 rfl) rfl
theorem q1267 : (Jvm.Cond.laysFinal "StiltTown$Work" "StiltTown$Work" "night" "I") ∈ lw_all := lw_g (lw_at lw_m5 149 rfl) rfl
theorem q1268 : (Jvm.Cond.soleField "StiltTown$Work" "night") ∈ lw_all := lw_g (lw_at lw_m5 150 rfl) rfl
theorem q1269 : (Jvm.Cond.laysFinal "StiltTown$Work" "StiltTown$Work" "house" "I") ∈ lw_all := lw_g (lw_at lw_m5 151 rfl) rfl
theorem q1270 : (Jvm.Cond.soleField "StiltTown$Work" "house") ∈ lw_all := lw_g (lw_at lw_m5 152 rfl) rfl
theorem q1271 : (Jvm.Cond.laysFinal "StiltTown$Work" "StiltTown$Work" "inches" "I") ∈ lw_all := lw_g (lw_at lw_m5 153 rfl) rfl
theorem q1272 : (Jvm.Cond.soleField "StiltTown$Work" "inches") ∈ lw_all := lw_g (lw_at lw_m5 154 rfl) rfl
theorem q1273 : (Jvm.Cond.superclass "StiltTown$Work" "java/lang/Record") ∈ lw_all := lw_g (lw_at lw_m5 155 rfl) rfl
theorem q2305 : (Jvm.Cond.castable "StiltTown$Work" "java/lang/Object") ∈ lw_tbl := lw_at lw_m9 227 rfl
theorem in_X18 : ∀ w ∈ wsX180, w ∈ lw_all := lw_in wsX180 [1267, 1269, 1271] (by decide +kernel) (by decide +kernel)

theorem q195 : (Jvm.Cond.initialized "StiltTown$Log") ∈ lw_all := lw_g (lw_at lw_m1 37 rfl) rfl
theorem q833 : (Jvm.Cond.selects "StiltTown$Log" ({ cls := "java/lang/Object", name := "getClass", desc := "()Ljava/lang/Class;" } : Jvm.MethodName) ({ cls := "java/lang/Object", name := "getClass", desc := "()Ljava/lang/Class;" } : Jvm.MethodName)) ∈ lw_all := lw_g (lw_at lw_m3 195 rfl) rfl
theorem q1418 : (Jvm.Cond.instantiable "StiltTown$Log" (4 : Nat)) ∈ lw_all := lw_g (lw_at lw_m6 60 rfl) rfl
theorem q1420 : (Jvm.Cond.instanceMethod ({ cls := "StiltTown$Log", name := "<init>", desc := "(IIII)V" } : Jvm.MethodName)) ∈ lw_all := lw_g (lw_at lw_m6 62 rfl) rfl
theorem q1421 : (Jvm.Cond.code ({ cls := "StiltTown$Log", name := "<init>", desc := "(IIII)V" } : Jvm.MethodName) prog_6_method_1_code (5 : Nat) (Option.none : Option Jvm.ClassFile.FieldType)) ∈ lw_all := lw_g (lw_at lw_m6 63 rfl) rfl
theorem q1422 : (Jvm.Cond.methodLink "StiltTown$Log" (1 : Nat) ({ cls := "java/lang/Record", name := "<init>", desc := "()V" } : Jvm.MethodName)) ∈ lw_all := lw_g (lw_at lw_m6 64 rfl) rfl
theorem q1423 : (Jvm.Cond.fieldLink "StiltTown$Log" (7 : Nat) "StiltTown$Log" "sort" "I") ∈ lw_all := lw_g (lw_at lw_m6 65 rfl) rfl
theorem q1425 : (Jvm.Cond.fieldLink "StiltTown$Log" (13 : Nat) "StiltTown$Log" "of" "I") ∈ lw_all := lw_g (lw_at lw_m6 67 rfl) rfl
theorem q1427 : (Jvm.Cond.fieldLink "StiltTown$Log" (16 : Nat) "StiltTown$Log" "where" "I") ∈ lw_all := lw_g (lw_at lw_m6 69 rfl) rfl
theorem q1429 : (Jvm.Cond.fieldLink "StiltTown$Log" (19 : Nat) "StiltTown$Log" "what" "I") ∈ lw_all := lw_g (lw_at lw_m6 71 rfl) rfl
theorem q1431 : (Jvm.Cond.laysFinal "StiltTown$Log" "StiltTown$Log" "sort" "I") ∈ lw_all := lw_g (lw_at lw_m6 73 rfl) rfl
theorem q1432 : (Jvm.Cond.soleField "StiltTown$Log" "sort") ∈ lw_all := lw_g (lw_at lw_m6 74 rfl) rfl
theorem q1433 : (Jvm.Cond.laysFinal "StiltTown$Log" "StiltTown$Log" "of" "I") ∈ lw_all := lw_g (lw_at lw_m6 75 rfl) rfl
theorem q1434 : (Jvm.Cond.soleField "StiltTown$Log" "of") ∈ lw_all := lw_g (lw_at lw_m6 76 rfl) rfl
theorem q1435 : (Jvm.Cond.laysFinal "StiltTown$Log" "StiltTown$Log" "where" "I") ∈ lw_all := lw_g (lw_at lw_m6 77 rfl) rfl
theorem q1436 : (Jvm.Cond.soleField "StiltTown$Log" "where") ∈ lw_all := lw_g (lw_at lw_m6 78 rfl) rfl
theorem q1437 : (Jvm.Cond.laysFinal "StiltTown$Log" "StiltTown$Log" "what" "I") ∈ lw_all := lw_g (lw_at lw_m6 79 rfl) rfl
theorem q1438 : (Jvm.Cond.soleField "StiltTown$Log" "what") ∈ lw_all := lw_g (lw_at lw_m6 80 rfl) rfl
theorem q1439 : (Jvm.Cond.superclass "StiltTown$Log" "java/lang/Record") ∈ lw_all := lw_g (lw_at lw_m6 81 rfl) rfl
theorem q2306 : (Jvm.Cond.castable "StiltTown$Log" "java/lang/Object") ∈ lw_tbl := lw_at lw_m9 228 rfl
theorem in_X19 : ∀ w ∈ wsX190, w ∈ lw_all := lw_in wsX190 [1431, 1433, 1435, 1437] (by decide +kernel) (by decide +kernel)

theorem q202 : (Jvm.Cond.instanceMethod ({ cls := "java/lang/Object", name := "<init>", desc := "()V" } : Jvm.MethodName)) ∈ lw_all := lw_g (lw_at lw_m1 44 rfl) rfl
theorem q203 : (Jvm.Cond.code ({ cls := "java/lang/Object", name := "<init>", desc := "()V" } : Jvm.MethodName) object_method_1_code (1 : Nat) (Option.none : Option Jvm.ClassFile.FieldType)) ∈ lw_all := lw_g (lw_at lw_m1 45 rfl) rfl
theorem q826 : (Jvm.Cond.instanceMethod ({ cls := "java/lang/Object", name := "getClass", desc := "()Ljava/lang/Class;" } : Jvm.MethodName)) ∈ lw_all := lw_g (lw_at lw_m3 188 rfl) rfl
theorem q827 : (Jvm.Cond.sameMethod "java/lang/Object" "java/lang/Object" "getClass" "()Ljava/lang/Class;") ∈ lw_all := lw_g (lw_at lw_m3 189 rfl) rfl
theorem q849 : (Jvm.Cond.native ({ cls := "java/lang/Object", name := "getClass", desc := "()Ljava/lang/Class;" } : Jvm.MethodName)) ∈ lw_all := lw_g (lw_at lw_m3 211 rfl) rfl
theorem q2284 : (Jvm.Cond.initialized "java/lang/Object") ∈ lw_all := lw_g (lw_at lw_m9 206 rfl) rfl
theorem q2310 : (Jvm.Cond.declares ({ cls := "java/lang/Object", name := "getClass", desc := "()Ljava/lang/Class;" } : Jvm.MethodName)) ∈ lw_tbl := lw_at lw_m9 232 rfl

theorem q233 : (Jvm.Cond.arrayClass Jvm.ClassFile.FieldType.byte) ∈ lw_all := lw_g (lw_at lw_m1 75 rfl) rfl
theorem q234 : (Jvm.Cond.arrayClass Jvm.ClassFile.FieldType.short) ∈ lw_all := lw_g (lw_at lw_m1 76 rfl) rfl
theorem q235 : (Jvm.Cond.arrayClass Jvm.ClassFile.FieldType.long) ∈ lw_all := lw_g (lw_at lw_m1 77 rfl) rfl
theorem q270 : (Jvm.Cond.arrayClass Jvm.ClassFile.FieldType.int) ∈ lw_all := lw_g (lw_at lw_m1 112 rfl) rfl
theorem q316 : (Jvm.Cond.arrayClass Jvm.ClassFile.FieldType.boolean) ∈ lw_all := lw_g (lw_at lw_m1 158 rfl) rfl
theorem q439 : (Jvm.Cond.arrayOver (Jvm.ClassFile.FieldType.object "StiltTown$State")) ∈ lw_tbl := lw_at lw_m2 41 rfl
theorem q472 : (Jvm.Cond.arrayOver (Jvm.ClassFile.FieldType.object "StiltTown$Kept")) ∈ lw_tbl := lw_at lw_m2 74 rfl
theorem q474 : (Jvm.Cond.arrayOver (Jvm.ClassFile.FieldType.array Jvm.ClassFile.FieldType.int)) ∈ lw_tbl := lw_at lw_m2 76 rfl
theorem q854 : (Jvm.Cond.arrayOver (Jvm.ClassFile.FieldType.object "java/lang/Object")) ∈ lw_tbl := lw_at lw_m3 216 rfl
theorem q2349 : (Jvm.Cond.arrayOver (Jvm.ClassFile.FieldType.object "java/lang/String")) ∈ lw_tbl := lw_at lw_m10 31 rfl

theorem q158 : (Jvm.Cond.initialized "StiltTownLaw") ∈ lw_all := lw_g (lw_at lw_m1 0 rfl) rfl
theorem q196 : (Jvm.Cond.classLink "StiltTownLaw" (7 : Nat) "StiltTown") ∈ lw_all := lw_g (lw_at lw_m1 38 rfl) rfl
theorem q198 : (Jvm.Cond.methodLink "StiltTownLaw" (9 : Nat) ({ cls := "StiltTown", name := "<init>", desc := "()V" } : Jvm.MethodName)) ∈ lw_all := lw_g (lw_at lw_m1 40 rfl) rfl
theorem q536 : (Jvm.Cond.methodLink "StiltTownLaw" (13 : Nat) ({ cls := "StiltTown", name := "feed", desc := "(IIIII)I" } : Jvm.MethodName)) ∈ lw_all := lw_g (lw_at lw_m2 138 rfl) rfl
theorem q548 : (Jvm.Cond.methodLink "StiltTownLaw" (18 : Nat) ({ cls := "StiltTown", name := "back", desc := "(I)I" } : Jvm.MethodName)) ∈ lw_all := lw_g (lw_at lw_m2 150 rfl) rfl
theorem q559 : (Jvm.Cond.methodLink "StiltTownLaw" (23 : Nat) ({ cls := "StiltTown", name := "read", desc := "()I" } : Jvm.MethodName)) ∈ lw_all := lw_g (lw_at lw_m2 161 rfl) rfl
theorem q1022 : (Jvm.Cond.methodLink "StiltTownLaw" (28 : Nat) ({ cls := "StiltTown", name := "place", desc := "()I" } : Jvm.MethodName)) ∈ lw_all := lw_g (lw_at lw_m4 144 rfl) rfl
theorem q1026 : (Jvm.Cond.methodLink "StiltTownLaw" (32 : Nat) ({ cls := "StiltTown", name := "house", desc := "(II)I" } : Jvm.MethodName)) ∈ lw_all := lw_g (lw_at lw_m4 148 rfl) rfl
theorem q1088 : (Jvm.Cond.methodLink "StiltTownLaw" (37 : Nat) ({ cls := "StiltTown", name := "give", desc := "(II)Z" } : Jvm.MethodName)) ∈ lw_all := lw_g (lw_at lw_m4 210 rfl) rfl
theorem q1097 : (Jvm.Cond.methodLink "StiltTownLaw" (42 : Nat) ({ cls := "StiltTown", name := "holder", desc := "(I)I" } : Jvm.MethodName)) ∈ lw_all := lw_g (lw_at lw_m4 219 rfl) rfl
theorem q1105 : (Jvm.Cond.methodLink "StiltTownLaw" (46 : Nat) ({ cls := "StiltTown", name := "months", desc := "(I)I" } : Jvm.MethodName)) ∈ lw_all := lw_g (lw_at lw_m4 227 rfl) rfl
theorem q1109 : (Jvm.Cond.methodLink "StiltTownLaw" (50 : Nat) ({ cls := "StiltTown", name := "tide", desc := "(I)I" } : Jvm.MethodName)) ∈ lw_all := lw_g (lw_at lw_m4 231 rfl) rfl
theorem q1120 : (Jvm.Cond.methodLink "StiltTownLaw" (54 : Nat) ({ cls := "StiltTown", name := "wet", desc := "(I)I" } : Jvm.MethodName)) ∈ lw_all := lw_g (lw_at lw_m5 2 rfl) rfl
theorem q1128 : (Jvm.Cond.methodLink "StiltTownLaw" (66 : Nat) ({ cls := "StiltTown", name := "meets", desc := "(I)I" } : Jvm.MethodName)) ∈ lw_all := lw_g (lw_at lw_m5 10 rfl) rfl
theorem q1140 : (Jvm.Cond.methodLink "StiltTownLaw" (58 : Nat) ({ cls := "StiltTown", name := "reached", desc := "(I)I" } : Jvm.MethodName)) ∈ lw_all := lw_g (lw_at lw_m5 22 rfl) rfl
theorem q1156 : (Jvm.Cond.methodLink "StiltTownLaw" (62 : Nat) ({ cls := "StiltTown", name := "hours", desc := "(I)I" } : Jvm.MethodName)) ∈ lw_all := lw_g (lw_at lw_m5 38 rfl) rfl
theorem q1160 : (Jvm.Cond.methodLink "StiltTownLaw" (70 : Nat) ({ cls := "StiltTown", name := "cut", desc := "(IZI)I" } : Jvm.MethodName)) ∈ lw_all := lw_g (lw_at lw_m5 42 rfl) rfl
theorem q1174 : (Jvm.Cond.methodLink "StiltTownLaw" (75 : Nat) ({ cls := "StiltTown", name := "worst", desc := "(ZI)I" } : Jvm.MethodName)) ∈ lw_all := lw_g (lw_at lw_m5 56 rfl) rfl
theorem q1178 : (Jvm.Cond.methodLink "StiltTownLaw" (80 : Nat) ({ cls := "StiltTown", name := "law", desc := "(I)I" } : Jvm.MethodName)) ∈ lw_all := lw_g (lw_at lw_m5 60 rfl) rfl
theorem q1234 : (Jvm.Cond.methodLink "StiltTownLaw" (84 : Nat) ({ cls := "StiltTown", name := "wood", desc := "(I)I" } : Jvm.MethodName)) ∈ lw_all := lw_g (lw_at lw_m5 116 rfl) rfl
theorem q1238 : (Jvm.Cond.methodLink "StiltTownLaw" (88 : Nat) ({ cls := "StiltTown", name := "jack", desc := "(II)I" } : Jvm.MethodName)) ∈ lw_all := lw_g (lw_at lw_m5 120 rfl) rfl
theorem q1251 : (Jvm.Cond.methodLink "StiltTownLaw" (92 : Nat) ({ cls := "StiltTown", name := "work", desc := "(III)I" } : Jvm.MethodName)) ∈ lw_all := lw_g (lw_at lw_m5 133 rfl) rfl
theorem q1275 : (Jvm.Cond.methodLink "StiltTownLaw" (97 : Nat) ({ cls := "StiltTown", name := "forget", desc := "()I" } : Jvm.MethodName)) ∈ lw_all := lw_g (lw_at lw_m5 157 rfl) rfl
theorem q1283 : (Jvm.Cond.methodLink "StiltTownLaw" (101 : Nat) ({ cls := "StiltTown", name := "judge", desc := "()I" } : Jvm.MethodName)) ∈ lw_all := lw_g (lw_at lw_m5 165 rfl) rfl
theorem q1308 : (Jvm.Cond.methodLink "StiltTownLaw" (105 : Nat) ({ cls := "StiltTown", name := "done", desc := "()I" } : Jvm.MethodName)) ∈ lw_all := lw_g (lw_at lw_m5 190 rfl) rfl
theorem q1316 : (Jvm.Cond.methodLink "StiltTownLaw" (109 : Nat) ({ cls := "StiltTown", name := "undo", desc := "()Z" } : Jvm.MethodName)) ∈ lw_all := lw_g (lw_at lw_m5 198 rfl) rfl
theorem q1320 : (Jvm.Cond.methodLink "StiltTownLaw" (114 : Nat) ({ cls := "StiltTown", name := "nights", desc := "(I)I" } : Jvm.MethodName)) ∈ lw_all := lw_g (lw_at lw_m5 202 rfl) rfl
theorem q1332 : (Jvm.Cond.methodLink "StiltTownLaw" (118 : Nat) ({ cls := "StiltTown", name := "looks", desc := "(II)I" } : Jvm.MethodName)) ∈ lw_all := lw_g (lw_at lw_m5 214 rfl) rfl
theorem q1344 : (Jvm.Cond.methodLink "StiltTownLaw" (122 : Nat) ({ cls := "StiltTown", name := "light", desc := "(I)I" } : Jvm.MethodName)) ∈ lw_all := lw_g (lw_at lw_m5 226 rfl) rfl
theorem q1348 : (Jvm.Cond.methodLink "StiltTownLaw" (126 : Nat) ({ cls := "StiltTown", name := "sway", desc := "(II)I" } : Jvm.MethodName)) ∈ lw_all := lw_g (lw_at lw_m5 230 rfl) rfl
theorem q1355 : (Jvm.Cond.methodLink "StiltTownLaw" (130 : Nat) ({ cls := "StiltTown", name := "chain", desc := "(III)I" } : Jvm.MethodName)) ∈ lw_all := lw_g (lw_at lw_m5 237 rfl) rfl
theorem q1379 : (Jvm.Cond.methodLink "StiltTownLaw" (134 : Nat) ({ cls := "StiltTown", name := "dread", desc := "(I)I" } : Jvm.MethodName)) ∈ lw_all := lw_g (lw_at lw_m6 21 rfl) rfl
theorem q1383 : (Jvm.Cond.methodLink "StiltTownLaw" (138 : Nat) ({ cls := "StiltTown", name := "year", desc := "(I)I" } : Jvm.MethodName)) ∈ lw_all := lw_g (lw_at lw_m6 25 rfl) rfl
theorem q1387 : (Jvm.Cond.methodLink "StiltTownLaw" (142 : Nat) ({ cls := "StiltTown", name := "clear", desc := "()I" } : Jvm.MethodName)) ∈ lw_all := lw_g (lw_at lw_m6 29 rfl) rfl
theorem q1391 : (Jvm.Cond.methodLink "StiltTownLaw" (146 : Nat) ({ cls := "StiltTown", name := "posts", desc := "(IIIII)I" } : Jvm.MethodName)) ∈ lw_all := lw_g (lw_at lw_m6 33 rfl) rfl
theorem q1405 : (Jvm.Cond.methodLink "StiltTownLaw" (150 : Nat) ({ cls := "StiltTown", name := "postAt", desc := "(IIIIII)I" } : Jvm.MethodName)) ∈ lw_all := lw_g (lw_at lw_m6 47 rfl) rfl
theorem q1409 : (Jvm.Cond.methodLink "StiltTownLaw" (155 : Nat) ({ cls := "StiltTown", name := "vote", desc := "(III)I" } : Jvm.MethodName)) ∈ lw_all := lw_g (lw_at lw_m6 51 rfl) rfl
theorem q1444 : (Jvm.Cond.methodLink "StiltTownLaw" (159 : Nat) ({ cls := "StiltTown", name := "mark", desc := "(III)I" } : Jvm.MethodName)) ∈ lw_all := lw_g (lw_at lw_m6 86 rfl) rfl
theorem q1448 : (Jvm.Cond.methodLink "StiltTownLaw" (163 : Nat) ({ cls := "StiltTown", name := "annul", desc := "(I)I" } : Jvm.MethodName)) ∈ lw_all := lw_g (lw_at lw_m6 90 rfl) rfl
theorem q1452 : (Jvm.Cond.methodLink "StiltTownLaw" (167 : Nat) ({ cls := "StiltTown", name := "votes", desc := "(III)I" } : Jvm.MethodName)) ∈ lw_all := lw_g (lw_at lw_m6 94 rfl) rfl
theorem q1472 : (Jvm.Cond.methodLink "StiltTownLaw" (171 : Nat) ({ cls := "StiltTown", name := "winner", desc := "(II)I" } : Jvm.MethodName)) ∈ lw_all := lw_g (lw_at lw_m6 114 rfl) rfl
theorem q1476 : (Jvm.Cond.methodLink "StiltTownLaw" (175 : Nat) ({ cls := "StiltTown", name := "ends", desc := "(IIII)I" } : Jvm.MethodName)) ∈ lw_all := lw_g (lw_at lw_m6 118 rfl) rfl
theorem q1484 : (Jvm.Cond.methodLink "StiltTownLaw" (180 : Nat) ({ cls := "StiltTown", name := "years", desc := "(II)I" } : Jvm.MethodName)) ∈ lw_all := lw_g (lw_at lw_m6 126 rfl) rfl
theorem q1499 : (Jvm.Cond.methodLink "StiltTownLaw" (184 : Nat) ({ cls := "StiltTown", name := "hold", desc := "(I)Z" } : Jvm.MethodName)) ∈ lw_all := lw_g (lw_at lw_m6 141 rfl) rfl
theorem q1525 : (Jvm.Cond.methodLink "StiltTownLaw" (189 : Nat) ({ cls := "StiltTown", name := "restore", desc := "(I)Z" } : Jvm.MethodName)) ∈ lw_all := lw_g (lw_at lw_m6 167 rfl) rfl
theorem q1529 : (Jvm.Cond.methodLink "StiltTownLaw" (193 : Nat) ({ cls := "StiltTown", name := "count", desc := "(I)I" } : Jvm.MethodName)) ∈ lw_all := lw_g (lw_at lw_m6 171 rfl) rfl
theorem q1533 : (Jvm.Cond.classLink "StiltTownLaw" (10 : Nat) "StiltTownModel") ∈ lw_all := lw_g (lw_at lw_m6 175 rfl) rfl
theorem q1535 : (Jvm.Cond.methodLink "StiltTownLaw" (12 : Nat) ({ cls := "StiltTownModel", name := "<init>", desc := "()V" } : Jvm.MethodName)) ∈ lw_all := lw_g (lw_at lw_m6 177 rfl) rfl
theorem q1715 : (Jvm.Cond.methodLink "StiltTownLaw" (17 : Nat) ({ cls := "StiltTownModel", name := "feed", desc := "(IIIII)I" } : Jvm.MethodName)) ∈ lw_all := lw_g (lw_at lw_m7 117 rfl) rfl
theorem q1723 : (Jvm.Cond.methodLink "StiltTownLaw" (22 : Nat) ({ cls := "StiltTownModel", name := "back", desc := "(I)I" } : Jvm.MethodName)) ∈ lw_all := lw_g (lw_at lw_m7 125 rfl) rfl
theorem q1727 : (Jvm.Cond.methodLink "StiltTownLaw" (27 : Nat) ({ cls := "StiltTownModel", name := "read", desc := "()I" } : Jvm.MethodName)) ∈ lw_all := lw_g (lw_at lw_m7 129 rfl) rfl
theorem q1912 : (Jvm.Cond.methodLink "StiltTownLaw" (31 : Nat) ({ cls := "StiltTownModel", name := "place", desc := "()I" } : Jvm.MethodName)) ∈ lw_all := lw_g (lw_at lw_m8 74 rfl) rfl
theorem q1916 : (Jvm.Cond.methodLink "StiltTownLaw" (36 : Nat) ({ cls := "StiltTownModel", name := "house", desc := "(II)I" } : Jvm.MethodName)) ∈ lw_all := lw_g (lw_at lw_m8 78 rfl) rfl
theorem q1955 : (Jvm.Cond.methodLink "StiltTownLaw" (41 : Nat) ({ cls := "StiltTownModel", name := "give", desc := "(II)Z" } : Jvm.MethodName)) ∈ lw_all := lw_g (lw_at lw_m8 117 rfl) rfl
theorem q1963 : (Jvm.Cond.methodLink "StiltTownLaw" (45 : Nat) ({ cls := "StiltTownModel", name := "holder", desc := "(I)I" } : Jvm.MethodName)) ∈ lw_all := lw_g (lw_at lw_m8 125 rfl) rfl
theorem q1967 : (Jvm.Cond.methodLink "StiltTownLaw" (49 : Nat) ({ cls := "StiltTownModel", name := "months", desc := "(I)I" } : Jvm.MethodName)) ∈ lw_all := lw_g (lw_at lw_m8 129 rfl) rfl
theorem q1974 : (Jvm.Cond.methodLink "StiltTownLaw" (53 : Nat) ({ cls := "StiltTownModel", name := "tide", desc := "(I)I" } : Jvm.MethodName)) ∈ lw_all := lw_g (lw_at lw_m8 136 rfl) rfl
theorem q1985 : (Jvm.Cond.methodLink "StiltTownLaw" (57 : Nat) ({ cls := "StiltTownModel", name := "wet", desc := "(I)I" } : Jvm.MethodName)) ∈ lw_all := lw_g (lw_at lw_m8 147 rfl) rfl
theorem q1989 : (Jvm.Cond.methodLink "StiltTownLaw" (61 : Nat) ({ cls := "StiltTownModel", name := "reached", desc := "(I)I" } : Jvm.MethodName)) ∈ lw_all := lw_g (lw_at lw_m8 151 rfl) rfl
theorem q2001 : (Jvm.Cond.methodLink "StiltTownLaw" (65 : Nat) ({ cls := "StiltTownModel", name := "hours", desc := "(I)I" } : Jvm.MethodName)) ∈ lw_all := lw_g (lw_at lw_m8 163 rfl) rfl
theorem q2005 : (Jvm.Cond.methodLink "StiltTownLaw" (69 : Nat) ({ cls := "StiltTownModel", name := "meets", desc := "(I)I" } : Jvm.MethodName)) ∈ lw_all := lw_g (lw_at lw_m8 167 rfl) rfl
theorem q2009 : (Jvm.Cond.methodLink "StiltTownLaw" (74 : Nat) ({ cls := "StiltTownModel", name := "cut", desc := "(IZI)I" } : Jvm.MethodName)) ∈ lw_all := lw_g (lw_at lw_m8 171 rfl) rfl
theorem q2024 : (Jvm.Cond.methodLink "StiltTownLaw" (79 : Nat) ({ cls := "StiltTownModel", name := "worst", desc := "(ZI)I" } : Jvm.MethodName)) ∈ lw_all := lw_g (lw_at lw_m8 186 rfl) rfl
theorem q2028 : (Jvm.Cond.methodLink "StiltTownLaw" (83 : Nat) ({ cls := "StiltTownModel", name := "law", desc := "(I)I" } : Jvm.MethodName)) ∈ lw_all := lw_g (lw_at lw_m8 190 rfl) rfl
theorem q2064 : (Jvm.Cond.methodLink "StiltTownLaw" (87 : Nat) ({ cls := "StiltTownModel", name := "wood", desc := "(I)I" } : Jvm.MethodName)) ∈ lw_all := lw_g (lw_at lw_m8 226 rfl) rfl
theorem q2068 : (Jvm.Cond.methodLink "StiltTownLaw" (91 : Nat) ({ cls := "StiltTownModel", name := "jack", desc := "(II)I" } : Jvm.MethodName)) ∈ lw_all := lw_g (lw_at lw_m8 230 rfl) rfl
theorem q2080 : (Jvm.Cond.methodLink "StiltTownLaw" (96 : Nat) ({ cls := "StiltTownModel", name := "work", desc := "(III)I" } : Jvm.MethodName)) ∈ lw_all := lw_g (lw_at lw_m9 2 rfl) rfl
theorem q2084 : (Jvm.Cond.methodLink "StiltTownLaw" (100 : Nat) ({ cls := "StiltTownModel", name := "forget", desc := "()I" } : Jvm.MethodName)) ∈ lw_all := lw_g (lw_at lw_m9 6 rfl) rfl
theorem q2088 : (Jvm.Cond.methodLink "StiltTownLaw" (104 : Nat) ({ cls := "StiltTownModel", name := "judge", desc := "()I" } : Jvm.MethodName)) ∈ lw_all := lw_g (lw_at lw_m9 10 rfl) rfl
theorem q2108 : (Jvm.Cond.methodLink "StiltTownLaw" (108 : Nat) ({ cls := "StiltTownModel", name := "done", desc := "()I" } : Jvm.MethodName)) ∈ lw_all := lw_g (lw_at lw_m9 30 rfl) rfl
theorem q2112 : (Jvm.Cond.methodLink "StiltTownLaw" (113 : Nat) ({ cls := "StiltTownModel", name := "undo", desc := "()Z" } : Jvm.MethodName)) ∈ lw_all := lw_g (lw_at lw_m9 34 rfl) rfl
theorem q2116 : (Jvm.Cond.methodLink "StiltTownLaw" (117 : Nat) ({ cls := "StiltTownModel", name := "nights", desc := "(I)I" } : Jvm.MethodName)) ∈ lw_all := lw_g (lw_at lw_m9 38 rfl) rfl
theorem q2132 : (Jvm.Cond.methodLink "StiltTownLaw" (121 : Nat) ({ cls := "StiltTownModel", name := "looks", desc := "(II)I" } : Jvm.MethodName)) ∈ lw_all := lw_g (lw_at lw_m9 54 rfl) rfl
theorem q2144 : (Jvm.Cond.methodLink "StiltTownLaw" (125 : Nat) ({ cls := "StiltTownModel", name := "light", desc := "(I)I" } : Jvm.MethodName)) ∈ lw_all := lw_g (lw_at lw_m9 66 rfl) rfl
theorem q2148 : (Jvm.Cond.methodLink "StiltTownLaw" (129 : Nat) ({ cls := "StiltTownModel", name := "sway", desc := "(II)I" } : Jvm.MethodName)) ∈ lw_all := lw_g (lw_at lw_m9 70 rfl) rfl
theorem q2155 : (Jvm.Cond.methodLink "StiltTownLaw" (133 : Nat) ({ cls := "StiltTownModel", name := "chain", desc := "(III)I" } : Jvm.MethodName)) ∈ lw_all := lw_g (lw_at lw_m9 77 rfl) rfl
theorem q2171 : (Jvm.Cond.methodLink "StiltTownLaw" (137 : Nat) ({ cls := "StiltTownModel", name := "dread", desc := "(I)I" } : Jvm.MethodName)) ∈ lw_all := lw_g (lw_at lw_m9 93 rfl) rfl
theorem q2175 : (Jvm.Cond.methodLink "StiltTownLaw" (141 : Nat) ({ cls := "StiltTownModel", name := "year", desc := "(I)I" } : Jvm.MethodName)) ∈ lw_all := lw_g (lw_at lw_m9 97 rfl) rfl
theorem q2179 : (Jvm.Cond.methodLink "StiltTownLaw" (145 : Nat) ({ cls := "StiltTownModel", name := "clear", desc := "()I" } : Jvm.MethodName)) ∈ lw_all := lw_g (lw_at lw_m9 101 rfl) rfl
theorem q2183 : (Jvm.Cond.methodLink "StiltTownLaw" (149 : Nat) ({ cls := "StiltTownModel", name := "posts", desc := "(IIIII)I" } : Jvm.MethodName)) ∈ lw_all := lw_g (lw_at lw_m9 105 rfl) rfl
theorem q2201 : (Jvm.Cond.methodLink "StiltTownLaw" (154 : Nat) ({ cls := "StiltTownModel", name := "postAt", desc := "(IIIIII)I" } : Jvm.MethodName)) ∈ lw_all := lw_g (lw_at lw_m9 123 rfl) rfl
theorem q2205 : (Jvm.Cond.methodLink "StiltTownLaw" (158 : Nat) ({ cls := "StiltTownModel", name := "vote", desc := "(III)I" } : Jvm.MethodName)) ∈ lw_all := lw_g (lw_at lw_m9 127 rfl) rfl
theorem q2213 : (Jvm.Cond.methodLink "StiltTownLaw" (162 : Nat) ({ cls := "StiltTownModel", name := "mark", desc := "(III)I" } : Jvm.MethodName)) ∈ lw_all := lw_g (lw_at lw_m9 135 rfl) rfl
theorem q2217 : (Jvm.Cond.methodLink "StiltTownLaw" (166 : Nat) ({ cls := "StiltTownModel", name := "annul", desc := "(I)I" } : Jvm.MethodName)) ∈ lw_all := lw_g (lw_at lw_m9 139 rfl) rfl
theorem q2221 : (Jvm.Cond.methodLink "StiltTownLaw" (170 : Nat) ({ cls := "StiltTownModel", name := "votes", desc := "(III)I" } : Jvm.MethodName)) ∈ lw_all := lw_g (lw_at lw_m9 143 rfl) rfl
theorem q2241 : (Jvm.Cond.methodLink "StiltTownLaw" (174 : Nat) ({ cls := "StiltTownModel", name := "winner", desc := "(II)I" } : Jvm.MethodName)) ∈ lw_all := lw_g (lw_at lw_m9 163 rfl) rfl
theorem q2245 : (Jvm.Cond.methodLink "StiltTownLaw" (179 : Nat) ({ cls := "StiltTownModel", name := "ends", desc := "(IIII)I" } : Jvm.MethodName)) ∈ lw_all := lw_g (lw_at lw_m9 167 rfl) rfl
theorem q2252 : (Jvm.Cond.methodLink "StiltTownLaw" (183 : Nat) ({ cls := "StiltTownModel", name := "years", desc := "(II)I" } : Jvm.MethodName)) ∈ lw_all := lw_g (lw_at lw_m9 174 rfl) rfl
theorem q2267 : (Jvm.Cond.methodLink "StiltTownLaw" (188 : Nat) ({ cls := "StiltTownModel", name := "hold", desc := "(I)Z" } : Jvm.MethodName)) ∈ lw_all := lw_g (lw_at lw_m9 189 rfl) rfl
theorem q2275 : (Jvm.Cond.methodLink "StiltTownLaw" (192 : Nat) ({ cls := "StiltTownModel", name := "restore", desc := "(I)Z" } : Jvm.MethodName)) ∈ lw_all := lw_g (lw_at lw_m9 197 rfl) rfl
theorem q2279 : (Jvm.Cond.methodLink "StiltTownLaw" (196 : Nat) ({ cls := "StiltTownModel", name := "count", desc := "(I)I" } : Jvm.MethodName)) ∈ lw_all := lw_g (lw_at lw_m9 201 rfl) rfl

theorem q185 : (Jvm.Cond.initialized "java/lang/System") ∈ lw_all := lw_g (lw_at lw_m1 27 rfl) rfl
theorem q860 : (Jvm.Cond.static ({ cls := "java/lang/System", name := "arraycopy", desc := "(Ljava/lang/Object;ILjava/lang/Object;II)V" } : Jvm.MethodName)) ∈ lw_all := lw_g (lw_at lw_m3 222 rfl) rfl
theorem q861 : (Jvm.Cond.native ({ cls := "java/lang/System", name := "arraycopy", desc := "(Ljava/lang/Object;ILjava/lang/Object;II)V" } : Jvm.MethodName)) ∈ lw_all := lw_g (lw_at lw_m3 223 rfl) rfl

theorem q1061 : (Jvm.Cond.interfaceMethod "StiltTown$Term" "StiltTown$Term" "value" "(LStiltTown$View;)I") ∈ lw_tbl := lw_at lw_m4 183 rfl
theorem q1062 : (Jvm.Cond.declares ({ cls := "StiltTown$Term", name := "value", desc := "(LStiltTown$View;)I" } : Jvm.MethodName)) ∈ lw_tbl := lw_at lw_m4 184 rfl

theorem q1205 : (Jvm.Cond.interfaceMethod "StiltTown$Test" "StiltTown$Test" "holds" "(LStiltTown$View;)Z") ∈ lw_tbl := lw_at lw_m5 87 rfl
theorem q1206 : (Jvm.Cond.declares ({ cls := "StiltTown$Test", name := "holds", desc := "(LStiltTown$View;)Z" } : Jvm.MethodName)) ∈ lw_tbl := lw_at lw_m5 88 rfl

theorem q1516 : (Jvm.Cond.interfaceMethod "java/util/Collection" "java/util/Collection" "toArray" "()[Ljava/lang/Object;") ∈ lw_tbl := lw_at lw_m6 158 rfl
theorem q1517 : (Jvm.Cond.declares ({ cls := "java/util/Collection", name := "toArray", desc := "()[Ljava/lang/Object;" } : Jvm.MethodName)) ∈ lw_tbl := lw_at lw_m6 159 rfl

theorem q2308 : (Jvm.Cond.sameMethod "[Ljava/lang/Object;" "java/lang/Object" "getClass" "()Ljava/lang/Class;") ∈ lw_all := lw_g (lw_at lw_m9 230 rfl) rfl
theorem q2309 : (Jvm.Cond.selects "[Ljava/lang/Object;" ({ cls := "java/lang/Object", name := "getClass", desc := "()Ljava/lang/Class;" } : Jvm.MethodName) ({ cls := "java/lang/Object", name := "getClass", desc := "()Ljava/lang/Class;" } : Jvm.MethodName)) ∈ lw_all := lw_g (lw_at lw_m9 231 rfl) rfl
theorem q2319 : (Jvm.Cond.castable "[Ljava/lang/Object;" "java/lang/Object") ∈ lw_tbl := lw_at lw_m10 1 rfl

theorem q2311 : (Jvm.Cond.castable "[B" "java/lang/Object") ∈ lw_tbl := lw_at lw_m9 233 rfl

theorem q2312 : (Jvm.Cond.castable "[S" "java/lang/Object") ∈ lw_tbl := lw_at lw_m9 234 rfl

theorem q2313 : (Jvm.Cond.castable "[J" "java/lang/Object") ∈ lw_tbl := lw_at lw_m9 235 rfl

theorem q2314 : (Jvm.Cond.castable "[I" "java/lang/Object") ∈ lw_tbl := lw_at lw_m9 236 rfl

theorem q2315 : (Jvm.Cond.castable "[Z" "java/lang/Object") ∈ lw_tbl := lw_at lw_m9 237 rfl

theorem q2316 : (Jvm.Cond.castable "[LStiltTown$State;" "java/lang/Object") ∈ lw_tbl := lw_at lw_m9 238 rfl

theorem q2317 : (Jvm.Cond.castable "[LStiltTown$Kept;" "java/lang/Object") ∈ lw_tbl := lw_at lw_m9 239 rfl

theorem q2318 : (Jvm.Cond.castable "[[I" "java/lang/Object") ∈ lw_tbl := lw_at lw_m10 0 rfl

theorem q2320 : (Jvm.Cond.castable "[Ljava/lang/String;" "java/lang/Object") ∈ lw_tbl := lw_at lw_m10 2 rfl

