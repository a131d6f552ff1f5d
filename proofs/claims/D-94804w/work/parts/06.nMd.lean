set_option maxRecDepth 100000
theorem q162 : (Jvm.Cond.initialized "HalfFairModel") ∈ lw_all := lw_g (lw_at lw_m1 10 rfl) rfl
theorem q700 : (Jvm.Cond.selects "HalfFairModel" ({ cls := "java/lang/Object", name := "getClass", desc := "()Ljava/lang/Class;" } : Jvm.MethodName) ({ cls := "java/lang/Object", name := "getClass", desc := "()Ljava/lang/Class;" } : Jvm.MethodName)) ∈ lw_all := lw_g (lw_at lw_m3 68 rfl) rfl
theorem q1395 : (Jvm.Cond.instantiable "HalfFairModel" (37 : Nat)) ∈ lw_all := lw_g (lw_at lw_m6 43 rfl) rfl
theorem q1397 : (Jvm.Cond.instanceMethod ({ cls := "HalfFairModel", name := "<init>", desc := "()V" } : Jvm.MethodName)) ∈ lw_all := lw_g (lw_at lw_m6 45 rfl) rfl
theorem q1398 : (Jvm.Cond.code ({ cls := "HalfFairModel", name := "<init>", desc := "()V" } : Jvm.MethodName) prog_20_method_1_code (1 : Nat) (Option.none : Option Jvm.ClassFile.FieldType)) ∈ lw_all := lw_g (lw_at lw_m6 46 rfl) rfl
theorem q1399 : (Jvm.Cond.methodLink "HalfFairModel" (1 : Nat) ({ cls := "java/lang/Object", name := "<init>", desc := "()V" } : Jvm.MethodName)) ∈ lw_all := lw_g (lw_at lw_m6 47 rfl) rfl
theorem q1400 : (Jvm.Cond.fieldLink "HalfFairModel" (7 : Nat) "HalfFairModel" "tape" "[B") ∈ lw_all := lw_g (lw_at lw_m6 48 rfl) rfl
theorem q1401 : (Jvm.Cond.fieldLink "HalfFairModel" (70 : Nat) "HalfFairModel" "taped" "I") ∈ lw_all := lw_g (lw_at lw_m6 49 rfl) rfl
theorem q1402 : (Jvm.Cond.fieldLink "HalfFairModel" (268 : Nat) "HalfFairModel" "rules" "I") ∈ lw_all := lw_g (lw_at lw_m6 50 rfl) rfl
theorem q1403 : (Jvm.Cond.fieldLink "HalfFairModel" (13 : Nat) "HalfFairModel" "sign" "[I") ∈ lw_all := lw_g (lw_at lw_m6 51 rfl) rfl
theorem q1404 : (Jvm.Cond.fieldLink "HalfFairModel" (17 : Nat) "HalfFairModel" "length" "[I") ∈ lw_all := lw_g (lw_at lw_m6 52 rfl) rfl
theorem q1405 : (Jvm.Cond.fieldLink "HalfFairModel" (20 : Nat) "HalfFairModel" "clause" "[I") ∈ lw_all := lw_g (lw_at lw_m6 53 rfl) rfl
theorem q1406 : (Jvm.Cond.fieldLink "HalfFairModel" (23 : Nat) "HalfFairModel" "clauses" "[I") ∈ lw_all := lw_g (lw_at lw_m6 54 rfl) rfl
theorem q1407 : (Jvm.Cond.fieldLink "HalfFairModel" (26 : Nat) "HalfFairModel" "read" "[I") ∈ lw_all := lw_g (lw_at lw_m6 55 rfl) rfl
theorem q1408 : (Jvm.Cond.fieldLink "HalfFairModel" (81 : Nat) "HalfFairModel" "next" "I") ∈ lw_all := lw_g (lw_at lw_m6 56 rfl) rfl
theorem q1409 : (Jvm.Cond.fieldLink "HalfFairModel" (78 : Nat) "HalfFairModel" "wrong" "I") ∈ lw_all := lw_g (lw_at lw_m6 57 rfl) rfl
theorem q1410 : (Jvm.Cond.fieldLink "HalfFairModel" (106 : Nat) "HalfFairModel" "number" "I") ∈ lw_all := lw_g (lw_at lw_m6 58 rfl) rfl
theorem q1411 : (Jvm.Cond.fieldLink "HalfFairModel" (139 : Nat) "HalfFairModel" "text" "I") ∈ lw_all := lw_g (lw_at lw_m6 59 rfl) rfl
theorem q1412 : (Jvm.Cond.fieldLink "HalfFairModel" (142 : Nat) "HalfFairModel" "made" "I") ∈ lw_all := lw_g (lw_at lw_m6 60 rfl) rfl
theorem q1413 : (Jvm.Cond.fieldLink "HalfFairModel" (145 : Nat) "HalfFairModel" "deep" "I") ∈ lw_all := lw_g (lw_at lw_m6 61 rfl) rfl
theorem q1414 : (Jvm.Cond.fieldLink "HalfFairModel" (256 : Nat) "HalfFairModel" "lines" "I") ∈ lw_all := lw_g (lw_at lw_m6 62 rfl) rfl
theorem q1415 : (Jvm.Cond.fieldLink "HalfFairModel" (29 : Nat) "HalfFairModel" "open" "[I") ∈ lw_all := lw_g (lw_at lw_m6 63 rfl) rfl
theorem q1416 : (Jvm.Cond.fieldLink "HalfFairModel" (148 : Nat) "HalfFairModel" "opened" "I") ∈ lw_all := lw_g (lw_at lw_m6 64 rfl) rfl
theorem q1417 : (Jvm.Cond.fieldLink "HalfFairModel" (32 : Nat) "HalfFairModel" "stack" "[J") ∈ lw_all := lw_g (lw_at lw_m6 65 rfl) rfl
theorem q1418 : (Jvm.Cond.fieldLink "HalfFairModel" (283 : Nat) "HalfFairModel" "top" "I") ∈ lw_all := lw_g (lw_at lw_m6 66 rfl) rfl
theorem q1419 : (Jvm.Cond.fieldLink "HalfFairModel" (36 : Nat) "HalfFairModel" "word" "[J") ∈ lw_all := lw_g (lw_at lw_m6 67 rfl) rfl
theorem q1420 : (Jvm.Cond.fieldLink "HalfFairModel" (39 : Nat) "HalfFairModel" "said" "[I") ∈ lw_all := lw_g (lw_at lw_m6 68 rfl) rfl
theorem q1421 : (Jvm.Cond.fieldLink "HalfFairModel" (479 : Nat) "HalfFairModel" "x" "I") ∈ lw_all := lw_g (lw_at lw_m6 69 rfl) rfl
theorem q1422 : (Jvm.Cond.fieldLink "HalfFairModel" (42 : Nat) "HalfFairModel" "worth" "[I") ∈ lw_all := lw_g (lw_at lw_m6 70 rfl) rfl
theorem q1423 : (Jvm.Cond.fieldLink "HalfFairModel" (45 : Nat) "HalfFairModel" "mate" "[I") ∈ lw_all := lw_g (lw_at lw_m6 71 rfl) rfl
theorem q1424 : (Jvm.Cond.fieldLink "HalfFairModel" (48 : Nat) "HalfFairModel" "wasSaid" "[I") ∈ lw_all := lw_g (lw_at lw_m6 72 rfl) rfl
theorem q1425 : (Jvm.Cond.fieldLink "HalfFairModel" (274 : Nat) "HalfFairModel" "undone" "I") ∈ lw_all := lw_g (lw_at lw_m6 73 rfl) rfl
theorem q1426 : (Jvm.Cond.fieldLink "HalfFairModel" (404 : Nat) "HalfFairModel" "boughtNow" "I") ∈ lw_all := lw_g (lw_at lw_m6 74 rfl) rfl
theorem q1427 : (Jvm.Cond.fieldLink "HalfFairModel" (51 : Nat) "HalfFairModel" "wayBy" "[I") ∈ lw_all := lw_g (lw_at lw_m6 75 rfl) rfl
theorem q1428 : (Jvm.Cond.fieldLink "HalfFairModel" (54 : Nat) "HalfFairModel" "wayThen" "[I") ∈ lw_all := lw_g (lw_at lw_m6 76 rfl) rfl
theorem q1429 : (Jvm.Cond.fieldLink "HalfFairModel" (428 : Nat) "HalfFairModel" "walkMost" "I") ∈ lw_all := lw_g (lw_at lw_m6 77 rfl) rfl
theorem q1430 : (Jvm.Cond.fieldLink "HalfFairModel" (434 : Nat) "HalfFairModel" "walkGoing" "I") ∈ lw_all := lw_g (lw_at lw_m6 78 rfl) rfl
theorem q1431 : (Jvm.Cond.fieldLink "HalfFairModel" (437 : Nat) "HalfFairModel" "walkSet" "I") ∈ lw_all := lw_g (lw_at lw_m6 79 rfl) rfl
theorem q1432 : (Jvm.Cond.fieldLink "HalfFairModel" (57 : Nat) "HalfFairModel" "kept" "[I") ∈ lw_all := lw_g (lw_at lw_m6 80 rfl) rfl
theorem q1433 : (Jvm.Cond.fieldLink "HalfFairModel" (482 : Nat) "HalfFairModel" "drawX" "J") ∈ lw_all := lw_g (lw_at lw_m6 81 rfl) rfl
theorem q1434 : (Jvm.Cond.fieldLink "HalfFairModel" (60 : Nat) "HalfFairModel" "images" "[I") ∈ lw_all := lw_g (lw_at lw_m6 82 rfl) rfl
theorem q1435 : (Jvm.Cond.fieldLink "HalfFairModel" (63 : Nat) "HalfFairModel" "imageX" "[I") ∈ lw_all := lw_g (lw_at lw_m6 83 rfl) rfl
theorem q1436 : (Jvm.Cond.fieldLink "HalfFairModel" (66 : Nat) "HalfFairModel" "isMade" "[Z") ∈ lw_all := lw_g (lw_at lw_m6 84 rfl) rfl
theorem q1437 : (Jvm.Cond.laysFinal "HalfFairModel" "HalfFairModel" "tape" "[B") ∈ lw_all := lw_g (lw_at lw_m6 85 rfl) rfl
theorem q1438 : (Jvm.Cond.soleField "HalfFairModel" "tape") ∈ lw_all := lw_g (lw_at lw_m6 86 rfl) rfl
theorem q1439 : (Jvm.Cond.lays "HalfFairModel" "HalfFairModel" "taped" "I") ∈ lw_all := lw_g (lw_at lw_m6 87 rfl) rfl
theorem q1440 : (Jvm.Cond.soleField "HalfFairModel" "taped") ∈ lw_all := lw_g (lw_at lw_m6 88 rfl) rfl
theorem q1441 : (Jvm.Cond.lays "HalfFairModel" "HalfFairModel" "rules" "I") ∈ lw_all := lw_g (lw_at lw_m6 89 rfl) rfl
theorem q1442 : (Jvm.Cond.soleField "HalfFairModel" "rules") ∈ lw_all := lw_g (lw_at lw_m6 90 rfl) rfl
theorem q1443 : (Jvm.Cond.laysFinal "HalfFairModel" "HalfFairModel" "sign" "[I") ∈ lw_all := lw_g (lw_at lw_m6 91 rfl) rfl
theorem q1444 : (Jvm.Cond.soleField "HalfFairModel" "sign") ∈ lw_all := lw_g (lw_at lw_m6 92 rfl) rfl
theorem q1445 : (Jvm.Cond.laysFinal "HalfFairModel" "HalfFairModel" "length" "[I") ∈ lw_all := lw_g (lw_at lw_m6 93 rfl) rfl
theorem q1446 : (Jvm.Cond.soleField "HalfFairModel" "length") ∈ lw_all := lw_g (lw_at lw_m6 94 rfl) rfl
theorem q1447 : (Jvm.Cond.laysFinal "HalfFairModel" "HalfFairModel" "clause" "[I") ∈ lw_all := lw_g (lw_at lw_m6 95 rfl) rfl
theorem q1448 : (Jvm.Cond.soleField "HalfFairModel" "clause") ∈ lw_all := lw_g (lw_at lw_m6 96 rfl) rfl
theorem q1449 : (Jvm.Cond.laysFinal "HalfFairModel" "HalfFairModel" "clauses" "[I") ∈ lw_all := lw_g (lw_at lw_m6 97 rfl) rfl
theorem q1450 : (Jvm.Cond.soleField "HalfFairModel" "clauses") ∈ lw_all := lw_g (lw_at lw_m6 98 rfl) rfl
theorem q1451 : (Jvm.Cond.laysFinal "HalfFairModel" "HalfFairModel" "read" "[I") ∈ lw_all := lw_g (lw_at lw_m6 99 rfl) rfl
theorem q1452 : (Jvm.Cond.soleField "HalfFairModel" "read") ∈ lw_all := lw_g (lw_at lw_m6 100 rfl) rfl
theorem q1453 : (Jvm.Cond.lays "HalfFairModel" "HalfFairModel" "next" "I") ∈ lw_all := lw_g (lw_at lw_m6 101 rfl) rfl
theorem q1454 : (Jvm.Cond.soleField "HalfFairModel" "next") ∈ lw_all := lw_g (lw_at lw_m6 102 rfl) rfl
theorem q1455 : (Jvm.Cond.lays "HalfFairModel" "HalfFairModel" "wrong" "I") ∈ lw_all := lw_g (lw_at lw_m6 103 rfl) rfl
theorem q1456 : (Jvm.Cond.soleField "HalfFairModel" "wrong") ∈ lw_all := lw_g (lw_at lw_m6 104 rfl) rfl
theorem q1457 : (Jvm.Cond.lays "HalfFairModel" "HalfFairModel" "number" "I") ∈ lw_all := lw_g (lw_at lw_m6 105 rfl) rfl
theorem q1458 : (Jvm.Cond.soleField "HalfFairModel" "number") ∈ lw_all := lw_g (lw_at lw_m6 106 rfl) rfl
theorem q1459 : (Jvm.Cond.lays "HalfFairModel" "HalfFairModel" "text" "I") ∈ lw_all := lw_g (lw_at lw_m6 107 rfl) rfl
theorem q1460 : (Jvm.Cond.soleField "HalfFairModel" "text") ∈ lw_all := lw_g (lw_at lw_m6 108 rfl) rfl
theorem q1461 : (Jvm.Cond.lays "HalfFairModel" "HalfFairModel" "made" "I") ∈ lw_all := lw_g (lw_at lw_m6 109 rfl) rfl
theorem q1462 : (Jvm.Cond.soleField "HalfFairModel" "made") ∈ lw_all := lw_g (lw_at lw_m6 110 rfl) rfl
theorem q1463 : (Jvm.Cond.lays "HalfFairModel" "HalfFairModel" "deep" "I") ∈ lw_all := lw_g (lw_at lw_m6 111 rfl) rfl
theorem q1464 : (Jvm.Cond.soleField "HalfFairModel" "deep") ∈ lw_all := lw_g (lw_at lw_m6 112 rfl) rfl
theorem q1465 : (Jvm.Cond.lays "HalfFairModel" "HalfFairModel" "lines" "I") ∈ lw_all := lw_g (lw_at lw_m6 113 rfl) rfl
theorem q1466 : (Jvm.Cond.soleField "HalfFairModel" "lines") ∈ lw_all := lw_g (lw_at lw_m6 114 rfl) rfl
theorem q1467 : (Jvm.Cond.laysFinal "HalfFairModel" "HalfFairModel" "open" "[I") ∈ lw_all := lw_g (lw_at lw_m6 115 rfl) rfl
theorem q1468 : (Jvm.Cond.soleField "HalfFairModel" "open") ∈ lw_all := lw_g (lw_at lw_m6 116 rfl) rfl
theorem q1469 : (Jvm.Cond.lays "HalfFairModel" "HalfFairModel" "opened" "I") ∈ lw_all := lw_g (lw_at lw_m6 117 rfl) rfl
theorem q1470 : (Jvm.Cond.soleField "HalfFairModel" "opened") ∈ lw_all := lw_g (lw_at lw_m6 118 rfl) rfl
theorem q1471 : (Jvm.Cond.laysFinal "HalfFairModel" "HalfFairModel" "stack" "[J") ∈ lw_all := lw_g (lw_at lw_m6 119 rfl) rfl
theorem q1472 : (Jvm.Cond.soleField "HalfFairModel" "stack") ∈ lw_all := lw_g (lw_at lw_m6 120 rfl) rfl
theorem q1473 : (Jvm.Cond.lays "HalfFairModel" "HalfFairModel" "top" "I") ∈ lw_all := lw_g (lw_at lw_m6 121 rfl) rfl
theorem q1474 : (Jvm.Cond.soleField "HalfFairModel" "top") ∈ lw_all := lw_g (lw_at lw_m6 122 rfl) rfl
theorem q1475 : (Jvm.Cond.laysFinal "HalfFairModel" "HalfFairModel" "word" "[J") ∈ lw_all := lw_g (lw_at lw_m6 123 rfl) rfl
theorem q1476 : (Jvm.Cond.soleField "HalfFairModel" "word") ∈ lw_all := lw_g (lw_at lw_m6 124 rfl) rfl
theorem q1477 : (Jvm.Cond.laysFinal "HalfFairModel" "HalfFairModel" "said" "[I") ∈ lw_all := lw_g (lw_at lw_m6 125 rfl) rfl
theorem q1478 : (Jvm.Cond.soleField "HalfFairModel" "said") ∈ lw_all := lw_g (lw_at lw_m6 126 rfl) rfl
theorem q1479 : (Jvm.Cond.lays "HalfFairModel" "HalfFairModel" "x" "I") ∈ lw_all := lw_g (lw_at lw_m6 127 rfl) rfl
theorem q1480 : (Jvm.Cond.soleField "HalfFairModel" "x") ∈ lw_all := lw_g (lw_at lw_m6 128 rfl) rfl
theorem q1481 : (Jvm.Cond.laysFinal "HalfFairModel" "HalfFairModel" "worth" "[I") ∈ lw_all := lw_g (lw_at lw_m6 129 rfl) rfl
theorem q1482 : (Jvm.Cond.soleField "HalfFairModel" "worth") ∈ lw_all := lw_g (lw_at lw_m6 130 rfl) rfl
theorem q1483 : (Jvm.Cond.laysFinal "HalfFairModel" "HalfFairModel" "mate" "[I") ∈ lw_all := lw_g (lw_at lw_m6 131 rfl) rfl
theorem q1484 : (Jvm.Cond.soleField "HalfFairModel" "mate") ∈ lw_all := lw_g (lw_at lw_m6 132 rfl) rfl
theorem q1485 : (Jvm.Cond.laysFinal "HalfFairModel" "HalfFairModel" "wasSaid" "[I") ∈ lw_all := lw_g (lw_at lw_m6 133 rfl) rfl
theorem q1486 : (Jvm.Cond.soleField "HalfFairModel" "wasSaid") ∈ lw_all := lw_g (lw_at lw_m6 134 rfl) rfl
theorem q1487 : (Jvm.Cond.lays "HalfFairModel" "HalfFairModel" "undone" "I") ∈ lw_all := lw_g (lw_at lw_m6 135 rfl) rfl
theorem q1488 : (Jvm.Cond.soleField "HalfFairModel" "undone") ∈ lw_all := lw_g (lw_at lw_m6 136 rfl) rfl
theorem q1489 : (Jvm.Cond.lays "HalfFairModel" "HalfFairModel" "boughtNow" "I") ∈ lw_all := lw_g (lw_at lw_m6 137 rfl) rfl
theorem q1490 : (Jvm.Cond.soleField "HalfFairModel" "boughtNow") ∈ lw_all := lw_g (lw_at lw_m6 138 rfl) rfl
theorem q1491 : (Jvm.Cond.laysFinal "HalfFairModel" "HalfFairModel" "wayBy" "[I") ∈ lw_all := lw_g (lw_at lw_m6 139 rfl) rfl
theorem q1492 : (Jvm.Cond.soleField "HalfFairModel" "wayBy") ∈ lw_all := lw_g (lw_at lw_m6 140 rfl) rfl
theorem q1493 : (Jvm.Cond.laysFinal "HalfFairModel" "HalfFairModel" "wayThen" "[I") ∈ lw_all := lw_g (lw_at lw_m6 141 rfl) rfl
theorem q1494 : (Jvm.Cond.soleField "HalfFairModel" "wayThen") ∈ lw_all := lw_g (lw_at lw_m6 142 rfl) rfl
theorem q1495 : (Jvm.Cond.lays "HalfFairModel" "HalfFairModel" "walkMost" "I") ∈ lw_all := lw_g (lw_at lw_m6 143 rfl) rfl
theorem q1496 : (Jvm.Cond.soleField "HalfFairModel" "walkMost") ∈ lw_all := lw_g (lw_at lw_m6 144 rfl) rfl
theorem q1497 : (Jvm.Cond.lays "HalfFairModel" "HalfFairModel" "walkGoing" "I") ∈ lw_all := lw_g (lw_at lw_m6 145 rfl) rfl
theorem q1498 : (Jvm.Cond.soleField "HalfFairModel" "walkGoing") ∈ lw_all := lw_g (lw_at lw_m6 146 rfl) rfl
theorem q1499 : (Jvm.Cond.lays "HalfFairModel" "HalfFairModel" "walkSet" "I") ∈ lw_all := lw_g (lw_at lw_m6 147 rfl) rfl
theorem q1500 : (Jvm.Cond.soleField "HalfFairModel" "walkSet") ∈ lw_all := lw_g (lw_at lw_m6 148 rfl) rfl
theorem q1501 : (Jvm.Cond.laysFinal "HalfFairModel" "HalfFairModel" "kept" "[I") ∈ lw_all := lw_g (lw_at lw_m6 149 rfl) rfl
theorem q1502 : (Jvm.Cond.soleField "HalfFairModel" "kept") ∈ lw_all := lw_g (lw_at lw_m6 150 rfl) rfl
theorem q1503 : (Jvm.Cond.lays "HalfFairModel" "HalfFairModel" "drawX" "J") ∈ lw_all := lw_g (lw_at lw_m6 151 rfl) rfl
theorem q1504 : (Jvm.Cond.soleField "HalfFairModel" "drawX") ∈ lw_all := lw_g (lw_at lw_m6 152 rfl) rfl
theorem q1505 : (Jvm.Cond.laysFinal "HalfFairModel" "HalfFairModel" "images" "[I") ∈ lw_all := lw_g (lw_at lw_m6 153 rfl) rfl
theorem q1506 : (Jvm.Cond.soleField "HalfFairModel" "images") ∈ lw_all := lw_g (lw_at lw_m6 154 rfl) rfl
theorem q1507 : (Jvm.Cond.laysFinal "HalfFairModel" "HalfFairModel" "imageX" "[I") ∈ lw_all := lw_g (lw_at lw_m6 155 rfl) rfl
theorem q1508 : (Jvm.Cond.soleField "HalfFairModel" "imageX") ∈ lw_all := lw_g (lw_at lw_m6 156 rfl) rfl
theorem q1509 : (Jvm.Cond.laysFinal "HalfFairModel" "HalfFairModel" "isMade" "[Z") ∈ lw_all := lw_g (lw_at lw_m6 157 rfl) rfl
theorem q1510 : (Jvm.Cond.soleField "HalfFairModel" "isMade") ∈ lw_all := lw_g (lw_at lw_m6 158 rfl) rfl
theorem q1511 : (Jvm.Cond.superclass "HalfFairModel" "java/lang/Object") ∈ lw_all := lw_g (lw_at lw_m6 159 rfl) rfl
theorem q1513 : (Jvm.Cond.instanceMethod ({ cls := "HalfFairModel", name := "feed", desc := "(IIIII)I" } : Jvm.MethodName)) ∈ lw_all := lw_g (lw_at lw_m6 161 rfl) rfl
theorem q1514 : (Jvm.Cond.selects "HalfFairModel" ({ cls := "HalfFairModel", name := "feed", desc := "(IIIII)I" } : Jvm.MethodName) ({ cls := "HalfFairModel", name := "feed", desc := "(IIIII)I" } : Jvm.MethodName)) ∈ lw_all := lw_g (lw_at lw_m6 162 rfl) rfl
theorem q1515 : (Jvm.Cond.code ({ cls := "HalfFairModel", name := "feed", desc := "(IIIII)I" } : Jvm.MethodName) prog_20_method_6_code (6 : Nat) (Option.some Jvm.ClassFile.FieldType.int)) ∈ lw_all := lw_g (lw_at lw_m6 163 rfl) rfl
theorem q1516 : (Jvm.Cond.methodLink "HalfFairModel" (74 : Nat) ({ cls := "HalfFairModel", name := "four", desc := "(I)V" } : Jvm.MethodName)) ∈ lw_all := lw_g (lw_at lw_m6 164 rfl) rfl
theorem q1517 : (Jvm.Cond.privateMethod ({ cls := "HalfFairModel", name := "four", desc := "(I)V" } : Jvm.MethodName)) ∈ lw_tbl := lw_at lw_m6 165 rfl
theorem q1518 : (Jvm.Cond.instanceMethod ({ cls := "HalfFairModel", name := "four", desc := "(I)V" } : Jvm.MethodName)) ∈ lw_all := lw_g (lw_at lw_m6 166 rfl) rfl
theorem q1519 : (Jvm.Cond.code ({ cls := "HalfFairModel", name := "four", desc := "(I)V" } : Jvm.MethodName) prog_20_method_5_code (3 : Nat) (Option.none : Option Jvm.ClassFile.FieldType)) ∈ lw_all := lw_g (lw_at lw_m6 167 rfl) rfl
theorem q1521 : (Jvm.Cond.instanceMethod ({ cls := "HalfFairModel", name := "end", desc := "(I)I" } : Jvm.MethodName)) ∈ lw_all := lw_g (lw_at lw_m6 169 rfl) rfl
theorem q1522 : (Jvm.Cond.selects "HalfFairModel" ({ cls := "HalfFairModel", name := "end", desc := "(I)I" } : Jvm.MethodName) ({ cls := "HalfFairModel", name := "end", desc := "(I)I" } : Jvm.MethodName)) ∈ lw_all := lw_g (lw_at lw_m6 170 rfl) rfl
theorem q1523 : (Jvm.Cond.code ({ cls := "HalfFairModel", name := "end", desc := "(I)I" } : Jvm.MethodName) prog_20_method_7_code (2 : Nat) (Option.some Jvm.ClassFile.FieldType.int)) ∈ lw_all := lw_g (lw_at lw_m6 171 rfl) rfl
theorem q1525 : (Jvm.Cond.instanceMethod ({ cls := "HalfFairModel", name := "rule", desc := "()I" } : Jvm.MethodName)) ∈ lw_all := lw_g (lw_at lw_m6 173 rfl) rfl
theorem q1526 : (Jvm.Cond.selects "HalfFairModel" ({ cls := "HalfFairModel", name := "rule", desc := "()I" } : Jvm.MethodName) ({ cls := "HalfFairModel", name := "rule", desc := "()I" } : Jvm.MethodName)) ∈ lw_all := lw_g (lw_at lw_m6 174 rfl) rfl
theorem q1527 : (Jvm.Cond.code ({ cls := "HalfFairModel", name := "rule", desc := "()I" } : Jvm.MethodName) prog_20_method_42_code (1 : Nat) (Option.some Jvm.ClassFile.FieldType.int)) ∈ lw_all := lw_g (lw_at lw_m6 175 rfl) rfl
theorem q1528 : (Jvm.Cond.methodLink "HalfFairModel" (271 : Nat) ({ cls := "HalfFairModel", name := "readsAll", desc := "()Z" } : Jvm.MethodName)) ∈ lw_all := lw_g (lw_at lw_m6 176 rfl) rfl
theorem q1529 : (Jvm.Cond.privateMethod ({ cls := "HalfFairModel", name := "readsAll", desc := "()Z" } : Jvm.MethodName)) ∈ lw_tbl := lw_at lw_m6 177 rfl
theorem q1530 : (Jvm.Cond.instanceMethod ({ cls := "HalfFairModel", name := "readsAll", desc := "()Z" } : Jvm.MethodName)) ∈ lw_all := lw_g (lw_at lw_m6 178 rfl) rfl
theorem q1531 : (Jvm.Cond.code ({ cls := "HalfFairModel", name := "readsAll", desc := "()Z" } : Jvm.MethodName) prog_20_method_41_code (2 : Nat) (Option.some Jvm.ClassFile.FieldType.boolean)) ∈ lw_all := lw_g (lw_at lw_m6 179 rfl) rfl
theorem q1532 : (Jvm.Cond.methodLink "HalfFairModel" (265 : Nat) ({ cls := "HalfFairModel", name := "clauseHere", desc := "()Z" } : Jvm.MethodName)) ∈ lw_all := lw_g (lw_at lw_m6 180 rfl) rfl
theorem q1533 : (Jvm.Cond.privateMethod ({ cls := "HalfFairModel", name := "clauseHere", desc := "()Z" } : Jvm.MethodName)) ∈ lw_tbl := lw_at lw_m6 181 rfl
theorem q1534 : (Jvm.Cond.instanceMethod ({ cls := "HalfFairModel", name := "clauseHere", desc := "()Z" } : Jvm.MethodName)) ∈ lw_all := lw_g (lw_at lw_m6 182 rfl) rfl
theorem q1535 : (Jvm.Cond.code ({ cls := "HalfFairModel", name := "clauseHere", desc := "()Z" } : Jvm.MethodName) prog_20_method_40_code (3 : Nat) (Option.some Jvm.ClassFile.FieldType.boolean)) ∈ lw_all := lw_g (lw_at lw_m6 183 rfl) rfl
theorem q1536 : (Jvm.Cond.methodLink "HalfFairModel" (84 : Nat) ({ cls := "HalfFairModel", name := "see", desc := "()I" } : Jvm.MethodName)) ∈ lw_all := lw_g (lw_at lw_m6 184 rfl) rfl
theorem q1537 : (Jvm.Cond.privateMethod ({ cls := "HalfFairModel", name := "see", desc := "()I" } : Jvm.MethodName)) ∈ lw_tbl := lw_at lw_m6 185 rfl
theorem q1538 : (Jvm.Cond.instanceMethod ({ cls := "HalfFairModel", name := "see", desc := "()I" } : Jvm.MethodName)) ∈ lw_all := lw_g (lw_at lw_m6 186 rfl) rfl
theorem q1539 : (Jvm.Cond.code ({ cls := "HalfFairModel", name := "see", desc := "()I" } : Jvm.MethodName) prog_20_method_9_code (1 : Nat) (Option.some Jvm.ClassFile.FieldType.int)) ∈ lw_all := lw_g (lw_at lw_m6 187 rfl) rfl
theorem q1540 : (Jvm.Cond.methodLink "HalfFairModel" (249 : Nat) ({ cls := "HalfFairModel", name := "isFairWord", desc := "()Z" } : Jvm.MethodName)) ∈ lw_all := lw_g (lw_at lw_m6 188 rfl) rfl
theorem q1541 : (Jvm.Cond.privateMethod ({ cls := "HalfFairModel", name := "isFairWord", desc := "()Z" } : Jvm.MethodName)) ∈ lw_tbl := lw_at lw_m6 189 rfl
theorem q1542 : (Jvm.Cond.instanceMethod ({ cls := "HalfFairModel", name := "isFairWord", desc := "()Z" } : Jvm.MethodName)) ∈ lw_all := lw_g (lw_at lw_m6 190 rfl) rfl
theorem q1543 : (Jvm.Cond.code ({ cls := "HalfFairModel", name := "isFairWord", desc := "()Z" } : Jvm.MethodName) prog_20_method_39_code (1 : Nat) (Option.some Jvm.ClassFile.FieldType.boolean)) ∈ lw_all := lw_g (lw_at lw_m6 191 rfl) rfl
theorem q1544 : (Jvm.Cond.constantLong "HalfFairModel" (218 : Nat) (126943687896179 : Int64)) ∈ lw_all := lw_g (lw_at lw_m6 192 rfl) rfl
theorem q1545 : (Jvm.Cond.methodLink "HalfFairModel" (92 : Nat) ({ cls := "HalfFairModel", name := "isWord", desc := "(J)Z" } : Jvm.MethodName)) ∈ lw_all := lw_g (lw_at lw_m6 193 rfl) rfl
theorem q1546 : (Jvm.Cond.privateMethod ({ cls := "HalfFairModel", name := "isWord", desc := "(J)Z" } : Jvm.MethodName)) ∈ lw_tbl := lw_at lw_m6 194 rfl
theorem q1547 : (Jvm.Cond.instanceMethod ({ cls := "HalfFairModel", name := "isWord", desc := "(J)Z" } : Jvm.MethodName)) ∈ lw_all := lw_g (lw_at lw_m6 195 rfl) rfl
theorem q1548 : (Jvm.Cond.code ({ cls := "HalfFairModel", name := "isWord", desc := "(J)Z" } : Jvm.MethodName) prog_20_method_12_code (6 : Nat) (Option.some Jvm.ClassFile.FieldType.boolean)) ∈ lw_all := lw_g (lw_at lw_m6 196 rfl) rfl
theorem q1549 : (Jvm.Cond.methodLink "HalfFairModel" (88 : Nat) ({ cls := "HalfFairModel", name := "isLetter", desc := "(I)Z" } : Jvm.MethodName)) ∈ lw_all := lw_g (lw_at lw_m6 197 rfl) rfl
theorem q1550 : (Jvm.Cond.privateMethod ({ cls := "HalfFairModel", name := "isLetter", desc := "(I)Z" } : Jvm.MethodName)) ∈ lw_tbl := lw_at lw_m6 198 rfl
theorem q1551 : (Jvm.Cond.instanceMethod ({ cls := "HalfFairModel", name := "isLetter", desc := "(I)Z" } : Jvm.MethodName)) ∈ lw_all := lw_g (lw_at lw_m6 199 rfl) rfl
theorem q1552 : (Jvm.Cond.code ({ cls := "HalfFairModel", name := "isLetter", desc := "(I)Z" } : Jvm.MethodName) prog_20_method_11_code (2 : Nat) (Option.some Jvm.ClassFile.FieldType.boolean)) ∈ lw_all := lw_g (lw_at lw_m6 200 rfl) rfl
theorem q1553 : (Jvm.Cond.constantLong "HalfFairModel" (125 : Nat) (1751215206 : Int64)) ∈ lw_all := lw_g (lw_at lw_m6 201 rfl) rfl
theorem q1554 : (Jvm.Cond.constantLong "HalfFairModel" (226 : Nat) (112628846781796 : Int64)) ∈ lw_all := lw_g (lw_at lw_m6 202 rfl) rfl
theorem q1555 : (Jvm.Cond.constantLong "HalfFairModel" (113 : Nat) (422877685106 : Int64)) ∈ lw_all := lw_g (lw_at lw_m6 203 rfl) rfl
theorem q1556 : (Jvm.Cond.constantLong "HalfFairModel" (234 : Nat) (1668052322 : Int64)) ∈ lw_all := lw_g (lw_at lw_m6 204 rfl) rfl
theorem q1557 : (Jvm.Cond.constantLong "HalfFairModel" (239 : Nat) (1852137842 : Int64)) ∈ lw_all := lw_g (lw_at lw_m6 205 rfl) rfl
theorem q1558 : (Jvm.Cond.constantLong "HalfFairModel" (247 : Nat) (1685418859 : Int64)) ∈ lw_all := lw_g (lw_at lw_m6 206 rfl) rfl
theorem q1559 : (Jvm.Cond.constantLong "HalfFairModel" (245 : Nat) (1751474546 : Int64)) ∈ lw_all := lw_g (lw_at lw_m6 207 rfl) rfl
theorem q1560 : (Jvm.Cond.constantLong "HalfFairModel" (252 : Nat) (6452601 : Int64)) ∈ lw_all := lw_g (lw_at lw_m6 208 rfl) rfl
theorem q1561 : (Jvm.Cond.constantLong "HalfFairModel" (254 : Nat) (26479 : Int64)) ∈ lw_all := lw_g (lw_at lw_m6 209 rfl) rfl
theorem q1562 : (Jvm.Cond.methodLink "HalfFairModel" (102 : Nat) ({ cls := "HalfFairModel", name := "fails", desc := "(II)Z" } : Jvm.MethodName)) ∈ lw_all := lw_g (lw_at lw_m6 210 rfl) rfl
theorem q1563 : (Jvm.Cond.privateMethod ({ cls := "HalfFairModel", name := "fails", desc := "(II)Z" } : Jvm.MethodName)) ∈ lw_tbl := lw_at lw_m6 211 rfl
theorem q1564 : (Jvm.Cond.instanceMethod ({ cls := "HalfFairModel", name := "fails", desc := "(II)Z" } : Jvm.MethodName)) ∈ lw_all := lw_g (lw_at lw_m6 212 rfl) rfl
theorem q1565 : (Jvm.Cond.code ({ cls := "HalfFairModel", name := "fails", desc := "(II)Z" } : Jvm.MethodName) prog_20_method_8_code (3 : Nat) (Option.some Jvm.ClassFile.FieldType.boolean)) ∈ lw_all := lw_g (lw_at lw_m6 213 rfl) rfl
theorem q1566 : (Jvm.Cond.methodLink "HalfFairModel" (259 : Nat) ({ cls := "HalfFairModel", name := "fairLineHere", desc := "(I)Z" } : Jvm.MethodName)) ∈ lw_all := lw_g (lw_at lw_m6 214 rfl) rfl
theorem q1567 : (Jvm.Cond.privateMethod ({ cls := "HalfFairModel", name := "fairLineHere", desc := "(I)Z" } : Jvm.MethodName)) ∈ lw_tbl := lw_at lw_m6 215 rfl
theorem q1568 : (Jvm.Cond.instanceMethod ({ cls := "HalfFairModel", name := "fairLineHere", desc := "(I)Z" } : Jvm.MethodName)) ∈ lw_all := lw_g (lw_at lw_m6 216 rfl) rfl
theorem q1569 : (Jvm.Cond.code ({ cls := "HalfFairModel", name := "fairLineHere", desc := "(I)Z" } : Jvm.MethodName) prog_20_method_38_code (2 : Nat) (Option.some Jvm.ClassFile.FieldType.boolean)) ∈ lw_all := lw_g (lw_at lw_m6 217 rfl) rfl
theorem q1570 : (Jvm.Cond.methodLink "HalfFairModel" (220 : Nat) ({ cls := "HalfFairModel", name := "areStallsHere", desc := "(I)Z" } : Jvm.MethodName)) ∈ lw_all := lw_g (lw_at lw_m6 218 rfl) rfl
theorem q1571 : (Jvm.Cond.privateMethod ({ cls := "HalfFairModel", name := "areStallsHere", desc := "(I)Z" } : Jvm.MethodName)) ∈ lw_tbl := lw_at lw_m6 219 rfl
theorem q1572 : (Jvm.Cond.instanceMethod ({ cls := "HalfFairModel", name := "areStallsHere", desc := "(I)Z" } : Jvm.MethodName)) ∈ lw_all := lw_g (lw_at lw_m6 220 rfl) rfl
theorem q1573 : (Jvm.Cond.code ({ cls := "HalfFairModel", name := "areStallsHere", desc := "(I)Z" } : Jvm.MethodName) prog_20_method_32_code (2 : Nat) (Option.some Jvm.ClassFile.FieldType.boolean)) ∈ lw_all := lw_g (lw_at lw_m6 221 rfl) rfl
theorem q1574 : (Jvm.Cond.methodLink "HalfFairModel" (96 : Nat) ({ cls := "HalfFairModel", name := "passWord", desc := "()V" } : Jvm.MethodName)) ∈ lw_all := lw_g (lw_at lw_m6 222 rfl) rfl
theorem q1575 : (Jvm.Cond.privateMethod ({ cls := "HalfFairModel", name := "passWord", desc := "()V" } : Jvm.MethodName)) ∈ lw_tbl := lw_at lw_m6 223 rfl
theorem q1576 : (Jvm.Cond.instanceMethod ({ cls := "HalfFairModel", name := "passWord", desc := "()V" } : Jvm.MethodName)) ∈ lw_all := lw_g (lw_at lw_m6 224 rfl) rfl
theorem q1577 : (Jvm.Cond.code ({ cls := "HalfFairModel", name := "passWord", desc := "()V" } : Jvm.MethodName) prog_20_method_13_code (1 : Nat) (Option.none : Option Jvm.ClassFile.FieldType)) ∈ lw_all := lw_g (lw_at lw_m6 225 rfl) rfl
theorem q1578 : (Jvm.Cond.methodLink "HalfFairModel" (211 : Nat) ({ cls := "HalfFairModel", name := "cellHere", desc := "(III)Z" } : Jvm.MethodName)) ∈ lw_all := lw_g (lw_at lw_m6 226 rfl) rfl
theorem q1579 : (Jvm.Cond.privateMethod ({ cls := "HalfFairModel", name := "cellHere", desc := "(III)Z" } : Jvm.MethodName)) ∈ lw_tbl := lw_at lw_m6 227 rfl
theorem q1580 : (Jvm.Cond.instanceMethod ({ cls := "HalfFairModel", name := "cellHere", desc := "(III)Z" } : Jvm.MethodName)) ∈ lw_all := lw_g (lw_at lw_m6 228 rfl) rfl
theorem q1581 : (Jvm.Cond.code ({ cls := "HalfFairModel", name := "cellHere", desc := "(III)Z" } : Jvm.MethodName) prog_20_method_31_code (4 : Nat) (Option.some Jvm.ClassFile.FieldType.boolean)) ∈ lw_all := lw_g (lw_at lw_m6 229 rfl) rfl
theorem q1582 : (Jvm.Cond.methodLink "HalfFairModel" (160 : Nat) ({ cls := "HalfFairModel", name := "numberHere", desc := "(II)Z" } : Jvm.MethodName)) ∈ lw_all := lw_g (lw_at lw_m6 230 rfl) rfl
theorem q1583 : (Jvm.Cond.privateMethod ({ cls := "HalfFairModel", name := "numberHere", desc := "(II)Z" } : Jvm.MethodName)) ∈ lw_tbl := lw_at lw_m6 231 rfl
theorem q1584 : (Jvm.Cond.instanceMethod ({ cls := "HalfFairModel", name := "numberHere", desc := "(II)Z" } : Jvm.MethodName)) ∈ lw_all := lw_g (lw_at lw_m6 232 rfl) rfl
theorem q1585 : (Jvm.Cond.code ({ cls := "HalfFairModel", name := "numberHere", desc := "(II)Z" } : Jvm.MethodName) prog_20_method_15_code (5 : Nat) (Option.some Jvm.ClassFile.FieldType.boolean)) ∈ lw_all := lw_g (lw_at lw_m6 233 rfl) rfl
theorem q1586 : (Jvm.Cond.methodLink "HalfFairModel" (99 : Nat) ({ cls := "HalfFairModel", name := "isDigit", desc := "(I)Z" } : Jvm.MethodName)) ∈ lw_all := lw_g (lw_at lw_m6 234 rfl) rfl
theorem q1587 : (Jvm.Cond.privateMethod ({ cls := "HalfFairModel", name := "isDigit", desc := "(I)Z" } : Jvm.MethodName)) ∈ lw_tbl := lw_at lw_m6 235 rfl
theorem q1588 : (Jvm.Cond.instanceMethod ({ cls := "HalfFairModel", name := "isDigit", desc := "(I)Z" } : Jvm.MethodName)) ∈ lw_all := lw_g (lw_at lw_m6 236 rfl) rfl
theorem q1589 : (Jvm.Cond.code ({ cls := "HalfFairModel", name := "isDigit", desc := "(I)Z" } : Jvm.MethodName) prog_20_method_10_code (2 : Nat) (Option.some Jvm.ClassFile.FieldType.boolean)) ∈ lw_all := lw_g (lw_at lw_m6 237 rfl) rfl
theorem q1590 : (Jvm.Cond.methodLink "HalfFairModel" (109 : Nat) ({ cls := "HalfFairModel", name := "in", desc := "(JJJ)Z" } : Jvm.MethodName)) ∈ lw_all := lw_g (lw_at lw_m6 238 rfl) rfl
theorem q1591 : (Jvm.Cond.static ({ cls := "HalfFairModel", name := "in", desc := "(JJJ)Z" } : Jvm.MethodName)) ∈ lw_all := lw_g (lw_at lw_m6 239 rfl) rfl
theorem q1592 : (Jvm.Cond.code ({ cls := "HalfFairModel", name := "in", desc := "(JJJ)Z" } : Jvm.MethodName) prog_20_method_2_code (6 : Nat) (Option.some Jvm.ClassFile.FieldType.boolean)) ∈ lw_all := lw_g (lw_at lw_m7 0 rfl) rfl
theorem q1593 : (Jvm.Cond.methodLink "HalfFairModel" (223 : Nat) ({ cls := "HalfFairModel", name := "isHalfHere", desc := "(I)Z" } : Jvm.MethodName)) ∈ lw_all := lw_g (lw_at lw_m7 1 rfl) rfl
theorem q1594 : (Jvm.Cond.privateMethod ({ cls := "HalfFairModel", name := "isHalfHere", desc := "(I)Z" } : Jvm.MethodName)) ∈ lw_tbl := lw_at lw_m7 2 rfl
theorem q1595 : (Jvm.Cond.instanceMethod ({ cls := "HalfFairModel", name := "isHalfHere", desc := "(I)Z" } : Jvm.MethodName)) ∈ lw_all := lw_g (lw_at lw_m7 3 rfl) rfl
theorem q1596 : (Jvm.Cond.code ({ cls := "HalfFairModel", name := "isHalfHere", desc := "(I)Z" } : Jvm.MethodName) prog_20_method_33_code (3 : Nat) (Option.some Jvm.ClassFile.FieldType.boolean)) ∈ lw_all := lw_g (lw_at lw_m7 4 rfl) rfl
theorem q1597 : (Jvm.Cond.methodLink "HalfFairModel" (228 : Nat) ({ cls := "HalfFairModel", name := "isForgedHere", desc := "()Z" } : Jvm.MethodName)) ∈ lw_all := lw_g (lw_at lw_m7 5 rfl) rfl
theorem q1598 : (Jvm.Cond.privateMethod ({ cls := "HalfFairModel", name := "isForgedHere", desc := "()Z" } : Jvm.MethodName)) ∈ lw_tbl := lw_at lw_m7 6 rfl
theorem q1599 : (Jvm.Cond.instanceMethod ({ cls := "HalfFairModel", name := "isForgedHere", desc := "()Z" } : Jvm.MethodName)) ∈ lw_all := lw_g (lw_at lw_m7 7 rfl) rfl
theorem q1600 : (Jvm.Cond.code ({ cls := "HalfFairModel", name := "isForgedHere", desc := "()Z" } : Jvm.MethodName) prog_20_method_34_code (1 : Nat) (Option.some Jvm.ClassFile.FieldType.boolean)) ∈ lw_all := lw_g (lw_at lw_m7 8 rfl) rfl
theorem q1601 : (Jvm.Cond.methodLink "HalfFairModel" (231 : Nat) ({ cls := "HalfFairModel", name := "isBuyerHere", desc := "(I)Z" } : Jvm.MethodName)) ∈ lw_all := lw_g (lw_at lw_m7 9 rfl) rfl
theorem q1602 : (Jvm.Cond.privateMethod ({ cls := "HalfFairModel", name := "isBuyerHere", desc := "(I)Z" } : Jvm.MethodName)) ∈ lw_tbl := lw_at lw_m7 10 rfl
theorem q1603 : (Jvm.Cond.instanceMethod ({ cls := "HalfFairModel", name := "isBuyerHere", desc := "(I)Z" } : Jvm.MethodName)) ∈ lw_all := lw_g (lw_at lw_m7 11 rfl) rfl
theorem q1604 : (Jvm.Cond.code ({ cls := "HalfFairModel", name := "isBuyerHere", desc := "(I)Z" } : Jvm.MethodName) prog_20_method_35_code (3 : Nat) (Option.some Jvm.ClassFile.FieldType.boolean)) ∈ lw_all := lw_g (lw_at lw_m7 12 rfl) rfl
theorem q1605 : (Jvm.Cond.methodLink "HalfFairModel" (236 : Nat) ({ cls := "HalfFairModel", name := "isClubHere", desc := "()Z" } : Jvm.MethodName)) ∈ lw_all := lw_g (lw_at lw_m7 13 rfl) rfl
theorem q1606 : (Jvm.Cond.privateMethod ({ cls := "HalfFairModel", name := "isClubHere", desc := "()Z" } : Jvm.MethodName)) ∈ lw_tbl := lw_at lw_m7 14 rfl
theorem q1607 : (Jvm.Cond.instanceMethod ({ cls := "HalfFairModel", name := "isClubHere", desc := "()Z" } : Jvm.MethodName)) ∈ lw_all := lw_g (lw_at lw_m7 15 rfl) rfl
theorem q1608 : (Jvm.Cond.code ({ cls := "HalfFairModel", name := "isClubHere", desc := "()Z" } : Jvm.MethodName) prog_20_method_36_code (5 : Nat) (Option.some Jvm.ClassFile.FieldType.boolean)) ∈ lw_all := lw_g (lw_at lw_m7 16 rfl) rfl
theorem q1609 : (Jvm.Cond.methodLink "HalfFairModel" (215 : Nat) ({ cls := "HalfFairModel", name := "isOf", desc := "(II)Z" } : Jvm.MethodName)) ∈ lw_all := lw_g (lw_at lw_m7 17 rfl) rfl
theorem q1610 : (Jvm.Cond.static ({ cls := "HalfFairModel", name := "isOf", desc := "(II)Z" } : Jvm.MethodName)) ∈ lw_all := lw_g (lw_at lw_m7 18 rfl) rfl
theorem q1611 : (Jvm.Cond.code ({ cls := "HalfFairModel", name := "isOf", desc := "(II)Z" } : Jvm.MethodName) prog_20_method_3_code (2 : Nat) (Option.some Jvm.ClassFile.FieldType.boolean)) ∈ lw_all := lw_g (lw_at lw_m7 19 rfl) rfl
theorem q1612 : (Jvm.Cond.methodLink "HalfFairModel" (241 : Nat) ({ cls := "HalfFairModel", name := "isOnceHere", desc := "(IIII)Z" } : Jvm.MethodName)) ∈ lw_all := lw_g (lw_at lw_m7 20 rfl) rfl
theorem q1613 : (Jvm.Cond.privateMethod ({ cls := "HalfFairModel", name := "isOnceHere", desc := "(IIII)Z" } : Jvm.MethodName)) ∈ lw_tbl := lw_at lw_m7 21 rfl
theorem q1614 : (Jvm.Cond.instanceMethod ({ cls := "HalfFairModel", name := "isOnceHere", desc := "(IIII)Z" } : Jvm.MethodName)) ∈ lw_all := lw_g (lw_at lw_m7 22 rfl) rfl
theorem q1615 : (Jvm.Cond.code ({ cls := "HalfFairModel", name := "isOnceHere", desc := "(IIII)Z" } : Jvm.MethodName) prog_20_method_37_code (5 : Nat) (Option.some Jvm.ClassFile.FieldType.boolean)) ∈ lw_all := lw_g (lw_at lw_m7 23 rfl) rfl
theorem q1616 : (Jvm.Cond.methodLink "HalfFairModel" (262 : Nat) ({ cls := "HalfFairModel", name := "isDoingHere", desc := "(I)Z" } : Jvm.MethodName)) ∈ lw_all := lw_g (lw_at lw_m7 24 rfl) rfl
theorem q1617 : (Jvm.Cond.privateMethod ({ cls := "HalfFairModel", name := "isDoingHere", desc := "(I)Z" } : Jvm.MethodName)) ∈ lw_tbl := lw_at lw_m7 25 rfl
theorem q1618 : (Jvm.Cond.instanceMethod ({ cls := "HalfFairModel", name := "isDoingHere", desc := "(I)Z" } : Jvm.MethodName)) ∈ lw_all := lw_g (lw_at lw_m7 26 rfl) rfl
theorem q1619 : (Jvm.Cond.code ({ cls := "HalfFairModel", name := "isDoingHere", desc := "(I)Z" } : Jvm.MethodName) prog_20_method_30_code (3 : Nat) (Option.some Jvm.ClassFile.FieldType.boolean)) ∈ lw_all := lw_g (lw_at lw_m7 27 rfl) rfl
theorem q1620 : (Jvm.Cond.methodLink "HalfFairModel" (176 : Nat) ({ cls := "HalfFairModel", name := "sum", desc := "()Z" } : Jvm.MethodName)) ∈ lw_all := lw_g (lw_at lw_m7 28 rfl) rfl
theorem q1621 : (Jvm.Cond.privateMethod ({ cls := "HalfFairModel", name := "sum", desc := "()Z" } : Jvm.MethodName)) ∈ lw_tbl := lw_at lw_m7 29 rfl
theorem q1622 : (Jvm.Cond.instanceMethod ({ cls := "HalfFairModel", name := "sum", desc := "()Z" } : Jvm.MethodName)) ∈ lw_all := lw_g (lw_at lw_m7 30 rfl) rfl
theorem q1623 : (Jvm.Cond.code ({ cls := "HalfFairModel", name := "sum", desc := "()Z" } : Jvm.MethodName) prog_20_method_24_code (2 : Nat) (Option.some Jvm.ClassFile.FieldType.boolean)) ∈ lw_all := lw_g (lw_at lw_m7 31 rfl) rfl
theorem q1624 : (Jvm.Cond.methodLink "HalfFairModel" (173 : Nat) ({ cls := "HalfFairModel", name := "term", desc := "()Z" } : Jvm.MethodName)) ∈ lw_all := lw_g (lw_at lw_m7 32 rfl) rfl
theorem q1625 : (Jvm.Cond.privateMethod ({ cls := "HalfFairModel", name := "term", desc := "()Z" } : Jvm.MethodName)) ∈ lw_tbl := lw_at lw_m7 33 rfl
theorem q1626 : (Jvm.Cond.instanceMethod ({ cls := "HalfFairModel", name := "term", desc := "()Z" } : Jvm.MethodName)) ∈ lw_all := lw_g (lw_at lw_m7 34 rfl) rfl
theorem q1627 : (Jvm.Cond.code ({ cls := "HalfFairModel", name := "term", desc := "()Z" } : Jvm.MethodName) prog_20_method_23_code (2 : Nat) (Option.some Jvm.ClassFile.FieldType.boolean)) ∈ lw_all := lw_g (lw_at lw_m7 35 rfl) rfl
theorem q1628 : (Jvm.Cond.methodLink "HalfFairModel" (169 : Nat) ({ cls := "HalfFairModel", name := "value", desc := "()Z" } : Jvm.MethodName)) ∈ lw_all := lw_g (lw_at lw_m7 36 rfl) rfl
theorem q1629 : (Jvm.Cond.privateMethod ({ cls := "HalfFairModel", name := "value", desc := "()Z" } : Jvm.MethodName)) ∈ lw_tbl := lw_at lw_m7 37 rfl
theorem q1630 : (Jvm.Cond.instanceMethod ({ cls := "HalfFairModel", name := "value", desc := "()Z" } : Jvm.MethodName)) ∈ lw_all := lw_g (lw_at lw_m7 38 rfl) rfl
theorem q1631 : (Jvm.Cond.code ({ cls := "HalfFairModel", name := "value", desc := "()Z" } : Jvm.MethodName) prog_20_method_22_code (3 : Nat) (Option.some Jvm.ClassFile.FieldType.boolean)) ∈ lw_all := lw_g (lw_at lw_m7 39 rfl) rfl
theorem q1632 : (Jvm.Cond.constant "HalfFairModel" (159 : Nat) (99999 : Int32)) ∈ lw_all := lw_g (lw_at lw_m7 40 rfl) rfl
theorem q1633 : (Jvm.Cond.methodLink "HalfFairModel" (163 : Nat) ({ cls := "HalfFairModel", name := "makes", desc := "(I)Z" } : Jvm.MethodName)) ∈ lw_all := lw_g (lw_at lw_m7 41 rfl) rfl
theorem q1634 : (Jvm.Cond.privateMethod ({ cls := "HalfFairModel", name := "makes", desc := "(I)Z" } : Jvm.MethodName)) ∈ lw_tbl := lw_at lw_m7 42 rfl
theorem q1635 : (Jvm.Cond.instanceMethod ({ cls := "HalfFairModel", name := "makes", desc := "(I)Z" } : Jvm.MethodName)) ∈ lw_all := lw_g (lw_at lw_m7 43 rfl) rfl
theorem q1636 : (Jvm.Cond.code ({ cls := "HalfFairModel", name := "makes", desc := "(I)Z" } : Jvm.MethodName) prog_20_method_18_code (2 : Nat) (Option.some Jvm.ClassFile.FieldType.boolean)) ∈ lw_all := lw_g (lw_at lw_m7 44 rfl) rfl
theorem q1637 : (Jvm.Cond.methodLink "HalfFairModel" (155 : Nat) ({ cls := "HalfFairModel", name := "puts", desc := "(II)V" } : Jvm.MethodName)) ∈ lw_all := lw_g (lw_at lw_m7 45 rfl) rfl
theorem q1638 : (Jvm.Cond.privateMethod ({ cls := "HalfFairModel", name := "puts", desc := "(II)V" } : Jvm.MethodName)) ∈ lw_tbl := lw_at lw_m7 46 rfl
theorem q1639 : (Jvm.Cond.instanceMethod ({ cls := "HalfFairModel", name := "puts", desc := "(II)V" } : Jvm.MethodName)) ∈ lw_all := lw_g (lw_at lw_m7 47 rfl) rfl
theorem q1640 : (Jvm.Cond.code ({ cls := "HalfFairModel", name := "puts", desc := "(II)V" } : Jvm.MethodName) prog_20_method_17_code (3 : Nat) (Option.none : Option Jvm.ClassFile.FieldType)) ∈ lw_all := lw_g (lw_at lw_m7 48 rfl) rfl
theorem q1641 : (Jvm.Cond.methodLink "HalfFairModel" (166 : Nat) ({ cls := "HalfFairModel", name := "wordHere", desc := "()I" } : Jvm.MethodName)) ∈ lw_all := lw_g (lw_at lw_m7 49 rfl) rfl
theorem q1642 : (Jvm.Cond.privateMethod ({ cls := "HalfFairModel", name := "wordHere", desc := "()I" } : Jvm.MethodName)) ∈ lw_tbl := lw_at lw_m7 50 rfl
theorem q1643 : (Jvm.Cond.instanceMethod ({ cls := "HalfFairModel", name := "wordHere", desc := "()I" } : Jvm.MethodName)) ∈ lw_all := lw_g (lw_at lw_m7 51 rfl) rfl
theorem q1644 : (Jvm.Cond.code ({ cls := "HalfFairModel", name := "wordHere", desc := "()I" } : Jvm.MethodName) prog_20_method_16_code (1 : Nat) (Option.some Jvm.ClassFile.FieldType.int)) ∈ lw_all := lw_g (lw_at lw_m7 52 rfl) rfl
theorem q1645 : (Jvm.Cond.constantLong "HalfFairModel" (115 : Nat) (483006772069 : Int64)) ∈ lw_all := lw_g (lw_at lw_m7 53 rfl) rfl
theorem q1646 : (Jvm.Cond.constantLong "HalfFairModel" (117 : Nat) (1936748404 : Int64)) ∈ lw_all := lw_g (lw_at lw_m7 54 rfl) rfl
theorem q1647 : (Jvm.Cond.constantLong "HalfFairModel" (119 : Nat) (1752135026 : Int64)) ∈ lw_all := lw_g (lw_at lw_m7 55 rfl) rfl
theorem q1648 : (Jvm.Cond.constantLong "HalfFairModel" (121 : Nat) (1818584692 : Int64)) ∈ lw_all := lw_g (lw_at lw_m7 56 rfl) rfl
theorem q1649 : (Jvm.Cond.constantLong "HalfFairModel" (123 : Nat) (6840691 : Int64)) ∈ lw_all := lw_g (lw_at lw_m7 57 rfl) rfl
theorem q1650 : (Jvm.Cond.constantLong "HalfFairModel" (127 : Nat) (495672455269 : Int64)) ∈ lw_all := lw_g (lw_at lw_m7 58 rfl) rfl
theorem q1651 : (Jvm.Cond.constantLong "HalfFairModel" (129 : Nat) (1936286821 : Int64)) ∈ lw_all := lw_g (lw_at lw_m7 59 rfl) rfl
theorem q1652 : (Jvm.Cond.constantLong "HalfFairModel" (131 : Nat) (482955846501 : Int64)) ∈ lw_all := lw_g (lw_at lw_m7 60 rfl) rfl
theorem q1653 : (Jvm.Cond.constantLong "HalfFairModel" (133 : Nat) (1718187123 : Int64)) ∈ lw_all := lw_g (lw_at lw_m7 61 rfl) rfl
theorem q1654 : (Jvm.Cond.constantLong "HalfFairModel" (135 : Nat) (121381705641081 : Int64)) ∈ lw_all := lw_g (lw_at lw_m7 62 rfl) rfl
theorem q1655 : (Jvm.Cond.constantLong "HalfFairModel" (137 : Nat) (461414299502 : Int64)) ∈ lw_all := lw_g (lw_at lw_m7 63 rfl) rfl
theorem q1656 : (Jvm.Cond.constantLong "HalfFairModel" (203 : Nat) (26982 : Int64)) ∈ lw_all := lw_g (lw_at lw_m7 64 rfl) rfl
theorem q1657 : (Jvm.Cond.methodLink "HalfFairModel" (205 : Nat) ({ cls := "HalfFairModel", name := "takesWord", desc := "(J)Z" } : Jvm.MethodName)) ∈ lw_all := lw_g (lw_at lw_m7 65 rfl) rfl
theorem q1658 : (Jvm.Cond.privateMethod ({ cls := "HalfFairModel", name := "takesWord", desc := "(J)Z" } : Jvm.MethodName)) ∈ lw_tbl := lw_at lw_m7 66 rfl
theorem q1659 : (Jvm.Cond.instanceMethod ({ cls := "HalfFairModel", name := "takesWord", desc := "(J)Z" } : Jvm.MethodName)) ∈ lw_all := lw_g (lw_at lw_m7 67 rfl) rfl
theorem q1660 : (Jvm.Cond.code ({ cls := "HalfFairModel", name := "takesWord", desc := "(J)Z" } : Jvm.MethodName) prog_20_method_14_code (3 : Nat) (Option.some Jvm.ClassFile.FieldType.boolean)) ∈ lw_all := lw_g (lw_at lw_m7 68 rfl) rfl
theorem q1661 : (Jvm.Cond.methodLink "HalfFairModel" (208 : Nat) ({ cls := "HalfFairModel", name := "tested", desc := "()Z" } : Jvm.MethodName)) ∈ lw_all := lw_g (lw_at lw_m7 69 rfl) rfl
theorem q1662 : (Jvm.Cond.privateMethod ({ cls := "HalfFairModel", name := "tested", desc := "()Z" } : Jvm.MethodName)) ∈ lw_tbl := lw_at lw_m7 70 rfl
theorem q1663 : (Jvm.Cond.instanceMethod ({ cls := "HalfFairModel", name := "tested", desc := "()Z" } : Jvm.MethodName)) ∈ lw_all := lw_g (lw_at lw_m7 71 rfl) rfl
theorem q1664 : (Jvm.Cond.code ({ cls := "HalfFairModel", name := "tested", desc := "()Z" } : Jvm.MethodName) prog_20_method_29_code (3 : Nat) (Option.some Jvm.ClassFile.FieldType.boolean)) ∈ lw_all := lw_g (lw_at lw_m7 72 rfl) rfl
theorem q1665 : (Jvm.Cond.methodLink "HalfFairModel" (193 : Nat) ({ cls := "HalfFairModel", name := "fact", desc := "()Z" } : Jvm.MethodName)) ∈ lw_all := lw_g (lw_at lw_m7 73 rfl) rfl
theorem q1666 : (Jvm.Cond.privateMethod ({ cls := "HalfFairModel", name := "fact", desc := "()Z" } : Jvm.MethodName)) ∈ lw_tbl := lw_at lw_m7 74 rfl
theorem q1667 : (Jvm.Cond.instanceMethod ({ cls := "HalfFairModel", name := "fact", desc := "()Z" } : Jvm.MethodName)) ∈ lw_all := lw_g (lw_at lw_m7 75 rfl) rfl
theorem q1668 : (Jvm.Cond.code ({ cls := "HalfFairModel", name := "fact", desc := "()Z" } : Jvm.MethodName) prog_20_method_26_code (3 : Nat) (Option.some Jvm.ClassFile.FieldType.boolean)) ∈ lw_all := lw_g (lw_at lw_m7 76 rfl) rfl
theorem q1669 : (Jvm.Cond.constantLong "HalfFairModel" (179 : Nat) (7237492 : Int64)) ∈ lw_all := lw_g (lw_at lw_m7 77 rfl) rfl
theorem q1670 : (Jvm.Cond.methodLink "HalfFairModel" (181 : Nat) ({ cls := "HalfFairModel", name := "opens", desc := "(I)Z" } : Jvm.MethodName)) ∈ lw_all := lw_g (lw_at lw_m7 78 rfl) rfl
theorem q1671 : (Jvm.Cond.privateMethod ({ cls := "HalfFairModel", name := "opens", desc := "(I)Z" } : Jvm.MethodName)) ∈ lw_tbl := lw_at lw_m7 79 rfl
theorem q1672 : (Jvm.Cond.instanceMethod ({ cls := "HalfFairModel", name := "opens", desc := "(I)Z" } : Jvm.MethodName)) ∈ lw_all := lw_g (lw_at lw_m7 80 rfl) rfl
theorem q1673 : (Jvm.Cond.code ({ cls := "HalfFairModel", name := "opens", desc := "(I)Z" } : Jvm.MethodName) prog_20_method_19_code (2 : Nat) (Option.some Jvm.ClassFile.FieldType.boolean)) ∈ lw_all := lw_g (lw_at lw_m7 81 rfl) rfl
theorem q1674 : (Jvm.Cond.methodLink "HalfFairModel" (184 : Nat) ({ cls := "HalfFairModel", name := "compare", desc := "()Z" } : Jvm.MethodName)) ∈ lw_all := lw_g (lw_at lw_m7 82 rfl) rfl
theorem q1675 : (Jvm.Cond.privateMethod ({ cls := "HalfFairModel", name := "compare", desc := "()Z" } : Jvm.MethodName)) ∈ lw_tbl := lw_at lw_m7 83 rfl
theorem q1676 : (Jvm.Cond.instanceMethod ({ cls := "HalfFairModel", name := "compare", desc := "()Z" } : Jvm.MethodName)) ∈ lw_all := lw_g (lw_at lw_m7 84 rfl) rfl
theorem q1677 : (Jvm.Cond.code ({ cls := "HalfFairModel", name := "compare", desc := "()Z" } : Jvm.MethodName) prog_20_method_25_code (5 : Nat) (Option.some Jvm.ClassFile.FieldType.boolean)) ∈ lw_all := lw_g (lw_at lw_m7 85 rfl) rfl
theorem q1678 : (Jvm.Cond.methodLink "HalfFairModel" (196 : Nat) ({ cls := "HalfFairModel", name := "closes", desc := "()V" } : Jvm.MethodName)) ∈ lw_all := lw_g (lw_at lw_m7 86 rfl) rfl
theorem q1679 : (Jvm.Cond.privateMethod ({ cls := "HalfFairModel", name := "closes", desc := "()V" } : Jvm.MethodName)) ∈ lw_tbl := lw_at lw_m7 87 rfl
theorem q1680 : (Jvm.Cond.instanceMethod ({ cls := "HalfFairModel", name := "closes", desc := "()V" } : Jvm.MethodName)) ∈ lw_all := lw_g (lw_at lw_m7 88 rfl) rfl
theorem q1681 : (Jvm.Cond.code ({ cls := "HalfFairModel", name := "closes", desc := "()V" } : Jvm.MethodName) prog_20_method_28_code (1 : Nat) (Option.none : Option Jvm.ClassFile.FieldType)) ∈ lw_all := lw_g (lw_at lw_m7 89 rfl) rfl
theorem q1682 : (Jvm.Cond.methodLink "HalfFairModel" (187 : Nat) ({ cls := "HalfFairModel", name := "settles", desc := "(I)V" } : Jvm.MethodName)) ∈ lw_all := lw_g (lw_at lw_m7 90 rfl) rfl
theorem q1683 : (Jvm.Cond.privateMethod ({ cls := "HalfFairModel", name := "settles", desc := "(I)V" } : Jvm.MethodName)) ∈ lw_tbl := lw_at lw_m7 91 rfl
theorem q1684 : (Jvm.Cond.instanceMethod ({ cls := "HalfFairModel", name := "settles", desc := "(I)V" } : Jvm.MethodName)) ∈ lw_all := lw_g (lw_at lw_m7 92 rfl) rfl
theorem q1685 : (Jvm.Cond.code ({ cls := "HalfFairModel", name := "settles", desc := "(I)V" } : Jvm.MethodName) prog_20_method_21_code (2 : Nat) (Option.none : Option Jvm.ClassFile.FieldType)) ∈ lw_all := lw_g (lw_at lw_m7 93 rfl) rfl
theorem q1686 : (Jvm.Cond.methodLink "HalfFairModel" (151 : Nat) ({ cls := "HalfFairModel", name := "strength", desc := "(I)I" } : Jvm.MethodName)) ∈ lw_all := lw_g (lw_at lw_m7 94 rfl) rfl
theorem q1687 : (Jvm.Cond.static ({ cls := "HalfFairModel", name := "strength", desc := "(I)I" } : Jvm.MethodName)) ∈ lw_all := lw_g (lw_at lw_m7 95 rfl) rfl
theorem q1688 : (Jvm.Cond.code ({ cls := "HalfFairModel", name := "strength", desc := "(I)I" } : Jvm.MethodName) prog_20_method_20_code (1 : Nat) (Option.some Jvm.ClassFile.FieldType.int)) ∈ lw_all := lw_g (lw_at lw_m7 96 rfl) rfl
theorem q1689 : (Jvm.Cond.methodLink "HalfFairModel" (190 : Nat) ({ cls := "HalfFairModel", name := "isInside", desc := "()Z" } : Jvm.MethodName)) ∈ lw_all := lw_g (lw_at lw_m7 97 rfl) rfl
theorem q1690 : (Jvm.Cond.privateMethod ({ cls := "HalfFairModel", name := "isInside", desc := "()Z" } : Jvm.MethodName)) ∈ lw_tbl := lw_at lw_m7 98 rfl
theorem q1691 : (Jvm.Cond.instanceMethod ({ cls := "HalfFairModel", name := "isInside", desc := "()Z" } : Jvm.MethodName)) ∈ lw_all := lw_g (lw_at lw_m7 99 rfl) rfl
theorem q1692 : (Jvm.Cond.code ({ cls := "HalfFairModel", name := "isInside", desc := "()Z" } : Jvm.MethodName) prog_20_method_27_code (2 : Nat) (Option.some Jvm.ClassFile.FieldType.boolean)) ∈ lw_all := lw_g (lw_at lw_m7 100 rfl) rfl
theorem q1693 : (Jvm.Cond.constantLong "HalfFairModel" (199 : Nat) (6385252 : Int64)) ∈ lw_all := lw_g (lw_at lw_m7 101 rfl) rfl
theorem q1694 : (Jvm.Cond.constantLong "HalfFairModel" (201 : Nat) (28530 : Int64)) ∈ lw_all := lw_g (lw_at lw_m7 102 rfl) rfl
theorem q1696 : (Jvm.Cond.instanceMethod ({ cls := "HalfFairModel", name := "fair", desc := "()I" } : Jvm.MethodName)) ∈ lw_all := lw_g (lw_at lw_m7 104 rfl) rfl
theorem q1697 : (Jvm.Cond.selects "HalfFairModel" ({ cls := "HalfFairModel", name := "fair", desc := "()I" } : Jvm.MethodName) ({ cls := "HalfFairModel", name := "fair", desc := "()I" } : Jvm.MethodName)) ∈ lw_all := lw_g (lw_at lw_m7 105 rfl) rfl
theorem q1698 : (Jvm.Cond.code ({ cls := "HalfFairModel", name := "fair", desc := "()I" } : Jvm.MethodName) prog_20_method_43_code (2 : Nat) (Option.some Jvm.ClassFile.FieldType.int)) ∈ lw_all := lw_g (lw_at lw_m7 106 rfl) rfl
theorem q1699 : (Jvm.Cond.methodLink "HalfFairModel" (277 : Nat) ({ cls := "HalfFairModel", name := "allSee", desc := "()V" } : Jvm.MethodName)) ∈ lw_all := lw_g (lw_at lw_m7 107 rfl) rfl
theorem q1700 : (Jvm.Cond.privateMethod ({ cls := "HalfFairModel", name := "allSee", desc := "()V" } : Jvm.MethodName)) ∈ lw_tbl := lw_at lw_m7 108 rfl
theorem q1701 : (Jvm.Cond.instanceMethod ({ cls := "HalfFairModel", name := "allSee", desc := "()V" } : Jvm.MethodName)) ∈ lw_all := lw_g (lw_at lw_m7 109 rfl) rfl
theorem q1702 : (Jvm.Cond.code ({ cls := "HalfFairModel", name := "allSee", desc := "()V" } : Jvm.MethodName) prog_20_method_66_code (2 : Nat) (Option.none : Option Jvm.ClassFile.FieldType)) ∈ lw_all := lw_g (lw_at lw_m7 110 rfl) rfl
theorem q1703 : (Jvm.Cond.methodLink "HalfFairModel" (314 : Nat) ({ cls := "HalfFairModel", name := "buyerOf", desc := "(II)I" } : Jvm.MethodName)) ∈ lw_all := lw_g (lw_at lw_m7 111 rfl) rfl
theorem q1704 : (Jvm.Cond.privateMethod ({ cls := "HalfFairModel", name := "buyerOf", desc := "(II)I" } : Jvm.MethodName)) ∈ lw_tbl := lw_at lw_m7 112 rfl
theorem q1705 : (Jvm.Cond.instanceMethod ({ cls := "HalfFairModel", name := "buyerOf", desc := "(II)I" } : Jvm.MethodName)) ∈ lw_all := lw_g (lw_at lw_m7 113 rfl) rfl
theorem q1706 : (Jvm.Cond.code ({ cls := "HalfFairModel", name := "buyerOf", desc := "(II)I" } : Jvm.MethodName) prog_20_method_53_code (3 : Nat) (Option.some Jvm.ClassFile.FieldType.int)) ∈ lw_all := lw_g (lw_at lw_m7 114 rfl) rfl
theorem q1707 : (Jvm.Cond.methodLink "HalfFairModel" (317 : Nat) ({ cls := "HalfFairModel", name := "stallAt", desc := "(II)I" } : Jvm.MethodName)) ∈ lw_all := lw_g (lw_at lw_m7 115 rfl) rfl
theorem q1708 : (Jvm.Cond.privateMethod ({ cls := "HalfFairModel", name := "stallAt", desc := "(II)I" } : Jvm.MethodName)) ∈ lw_tbl := lw_at lw_m7 116 rfl
theorem q1709 : (Jvm.Cond.instanceMethod ({ cls := "HalfFairModel", name := "stallAt", desc := "(II)I" } : Jvm.MethodName)) ∈ lw_all := lw_g (lw_at lw_m7 117 rfl) rfl
theorem q1710 : (Jvm.Cond.code ({ cls := "HalfFairModel", name := "stallAt", desc := "(II)I" } : Jvm.MethodName) prog_20_method_57_code (4 : Nat) (Option.some Jvm.ClassFile.FieldType.int)) ∈ lw_all := lw_g (lw_at lw_m7 118 rfl) rfl
theorem q1711 : (Jvm.Cond.methodLink "HalfFairModel" (305 : Nat) ({ cls := "HalfFairModel", name := "spotAt", desc := "(II)I" } : Jvm.MethodName)) ∈ lw_all := lw_g (lw_at lw_m7 119 rfl) rfl
theorem q1712 : (Jvm.Cond.privateMethod ({ cls := "HalfFairModel", name := "spotAt", desc := "(II)I" } : Jvm.MethodName)) ∈ lw_tbl := lw_at lw_m7 120 rfl
theorem q1713 : (Jvm.Cond.instanceMethod ({ cls := "HalfFairModel", name := "spotAt", desc := "(II)I" } : Jvm.MethodName)) ∈ lw_all := lw_g (lw_at lw_m7 121 rfl) rfl
theorem q1714 : (Jvm.Cond.code ({ cls := "HalfFairModel", name := "spotAt", desc := "(II)I" } : Jvm.MethodName) prog_20_method_56_code (3 : Nat) (Option.some Jvm.ClassFile.FieldType.int)) ∈ lw_all := lw_g (lw_at lw_m7 122 rfl) rfl
theorem q1715 : (Jvm.Cond.methodLink "HalfFairModel" (320 : Nat) ({ cls := "HalfFairModel", name := "atStall", desc := "(I)I" } : Jvm.MethodName)) ∈ lw_all := lw_g (lw_at lw_m7 123 rfl) rfl
theorem q1716 : (Jvm.Cond.privateMethod ({ cls := "HalfFairModel", name := "atStall", desc := "(I)I" } : Jvm.MethodName)) ∈ lw_tbl := lw_at lw_m7 124 rfl
theorem q1717 : (Jvm.Cond.instanceMethod ({ cls := "HalfFairModel", name := "atStall", desc := "(I)I" } : Jvm.MethodName)) ∈ lw_all := lw_g (lw_at lw_m7 125 rfl) rfl
theorem q1718 : (Jvm.Cond.code ({ cls := "HalfFairModel", name := "atStall", desc := "(I)I" } : Jvm.MethodName) prog_20_method_63_code (4 : Nat) (Option.some Jvm.ClassFile.FieldType.int)) ∈ lw_all := lw_g (lw_at lw_m7 126 rfl) rfl
theorem q1719 : (Jvm.Cond.methodLink "HalfFairModel" (301 : Nat) ({ cls := "HalfFairModel", name := "halfOf", desc := "(II)I" } : Jvm.MethodName)) ∈ lw_all := lw_g (lw_at lw_m7 127 rfl) rfl
theorem q1720 : (Jvm.Cond.privateMethod ({ cls := "HalfFairModel", name := "halfOf", desc := "(II)I" } : Jvm.MethodName)) ∈ lw_tbl := lw_at lw_m7 128 rfl
theorem q1721 : (Jvm.Cond.instanceMethod ({ cls := "HalfFairModel", name := "halfOf", desc := "(II)I" } : Jvm.MethodName)) ∈ lw_all := lw_g (lw_at lw_m7 129 rfl) rfl
theorem q1722 : (Jvm.Cond.code ({ cls := "HalfFairModel", name := "halfOf", desc := "(II)I" } : Jvm.MethodName) prog_20_method_52_code (3 : Nat) (Option.some Jvm.ClassFile.FieldType.int)) ∈ lw_all := lw_g (lw_at lw_m7 130 rfl) rfl
theorem q1723 : (Jvm.Cond.methodLink "HalfFairModel" (280 : Nat) ({ cls := "HalfFairModel", name := "fillsWorth", desc := "()V" } : Jvm.MethodName)) ∈ lw_all := lw_g (lw_at lw_m7 131 rfl) rfl
theorem q1724 : (Jvm.Cond.privateMethod ({ cls := "HalfFairModel", name := "fillsWorth", desc := "()V" } : Jvm.MethodName)) ∈ lw_tbl := lw_at lw_m7 132 rfl
theorem q1725 : (Jvm.Cond.instanceMethod ({ cls := "HalfFairModel", name := "fillsWorth", desc := "()V" } : Jvm.MethodName)) ∈ lw_all := lw_g (lw_at lw_m7 133 rfl) rfl
theorem q1726 : (Jvm.Cond.code ({ cls := "HalfFairModel", name := "fillsWorth", desc := "()V" } : Jvm.MethodName) prog_20_method_68_code (7 : Nat) (Option.none : Option Jvm.ClassFile.FieldType)) ∈ lw_all := lw_g (lw_at lw_m7 134 rfl) rfl
theorem q1727 : (Jvm.Cond.methodLink "HalfFairModel" (323 : Nat) ({ cls := "HalfFairModel", name := "leastOf", desc := "(I)I" } : Jvm.MethodName)) ∈ lw_all := lw_g (lw_at lw_m7 135 rfl) rfl
theorem q1728 : (Jvm.Cond.privateMethod ({ cls := "HalfFairModel", name := "leastOf", desc := "(I)I" } : Jvm.MethodName)) ∈ lw_tbl := lw_at lw_m7 136 rfl
theorem q1729 : (Jvm.Cond.instanceMethod ({ cls := "HalfFairModel", name := "leastOf", desc := "(I)I" } : Jvm.MethodName)) ∈ lw_all := lw_g (lw_at lw_m7 137 rfl) rfl
theorem q1730 : (Jvm.Cond.code ({ cls := "HalfFairModel", name := "leastOf", desc := "(I)I" } : Jvm.MethodName) prog_20_method_67_code (3 : Nat) (Option.some Jvm.ClassFile.FieldType.int)) ∈ lw_all := lw_g (lw_at lw_m7 138 rfl) rfl
theorem q1731 : (Jvm.Cond.methodLink "HalfFairModel" (326 : Nat) ({ cls := "HalfFairModel", name := "fitOf", desc := "(II)I" } : Jvm.MethodName)) ∈ lw_all := lw_g (lw_at lw_m7 139 rfl) rfl
theorem q1732 : (Jvm.Cond.privateMethod ({ cls := "HalfFairModel", name := "fitOf", desc := "(II)I" } : Jvm.MethodName)) ∈ lw_tbl := lw_at lw_m7 140 rfl
theorem q1733 : (Jvm.Cond.instanceMethod ({ cls := "HalfFairModel", name := "fitOf", desc := "(II)I" } : Jvm.MethodName)) ∈ lw_all := lw_g (lw_at lw_m7 141 rfl) rfl
theorem q1734 : (Jvm.Cond.code ({ cls := "HalfFairModel", name := "fitOf", desc := "(II)I" } : Jvm.MethodName) prog_20_method_61_code (3 : Nat) (Option.some Jvm.ClassFile.FieldType.int)) ∈ lw_all := lw_g (lw_at lw_m7 142 rfl) rfl
theorem q1735 : (Jvm.Cond.methodLink "HalfFairModel" (311 : Nat) ({ cls := "HalfFairModel", name := "fitTold", desc := "(II)I" } : Jvm.MethodName)) ∈ lw_all := lw_g (lw_at lw_m7 143 rfl) rfl
theorem q1736 : (Jvm.Cond.privateMethod ({ cls := "HalfFairModel", name := "fitTold", desc := "(II)I" } : Jvm.MethodName)) ∈ lw_tbl := lw_at lw_m7 144 rfl
theorem q1737 : (Jvm.Cond.instanceMethod ({ cls := "HalfFairModel", name := "fitTold", desc := "(II)I" } : Jvm.MethodName)) ∈ lw_all := lw_g (lw_at lw_m7 145 rfl) rfl
theorem q1738 : (Jvm.Cond.code ({ cls := "HalfFairModel", name := "fitTold", desc := "(II)I" } : Jvm.MethodName) prog_20_method_60_code (4 : Nat) (Option.some Jvm.ClassFile.FieldType.int)) ∈ lw_all := lw_g (lw_at lw_m7 146 rfl) rfl
theorem q1739 : (Jvm.Cond.methodLink "HalfFairModel" (308 : Nat) ({ cls := "HalfFairModel", name := "apart", desc := "(II)I" } : Jvm.MethodName)) ∈ lw_all := lw_g (lw_at lw_m7 147 rfl) rfl
theorem q1740 : (Jvm.Cond.privateMethod ({ cls := "HalfFairModel", name := "apart", desc := "(II)I" } : Jvm.MethodName)) ∈ lw_tbl := lw_at lw_m7 148 rfl
theorem q1741 : (Jvm.Cond.instanceMethod ({ cls := "HalfFairModel", name := "apart", desc := "(II)I" } : Jvm.MethodName)) ∈ lw_all := lw_g (lw_at lw_m7 149 rfl) rfl
theorem q1742 : (Jvm.Cond.code ({ cls := "HalfFairModel", name := "apart", desc := "(II)I" } : Jvm.MethodName) prog_20_method_59_code (3 : Nat) (Option.some Jvm.ClassFile.FieldType.int)) ∈ lw_all := lw_g (lw_at lw_m7 150 rfl) rfl
theorem q1744 : (Jvm.Cond.instanceMethod ({ cls := "HalfFairModel", name := "worth", desc := "(I)I" } : Jvm.MethodName)) ∈ lw_all := lw_g (lw_at lw_m7 152 rfl) rfl
theorem q1745 : (Jvm.Cond.selects "HalfFairModel" ({ cls := "HalfFairModel", name := "worth", desc := "(I)I" } : Jvm.MethodName) ({ cls := "HalfFairModel", name := "worth", desc := "(I)I" } : Jvm.MethodName)) ∈ lw_all := lw_g (lw_at lw_m7 153 rfl) rfl
theorem q1746 : (Jvm.Cond.code ({ cls := "HalfFairModel", name := "worth", desc := "(I)I" } : Jvm.MethodName) prog_20_method_70_code (2 : Nat) (Option.some Jvm.ClassFile.FieldType.int)) ∈ lw_all := lw_g (lw_at lw_m7 154 rfl) rfl
theorem q1747 : (Jvm.Cond.methodLink "HalfFairModel" (332 : Nat) ({ cls := "HalfFairModel", name := "isSet", desc := "(I)Z" } : Jvm.MethodName)) ∈ lw_all := lw_g (lw_at lw_m7 155 rfl) rfl
theorem q1748 : (Jvm.Cond.privateMethod ({ cls := "HalfFairModel", name := "isSet", desc := "(I)Z" } : Jvm.MethodName)) ∈ lw_tbl := lw_at lw_m7 156 rfl
theorem q1749 : (Jvm.Cond.instanceMethod ({ cls := "HalfFairModel", name := "isSet", desc := "(I)Z" } : Jvm.MethodName)) ∈ lw_all := lw_g (lw_at lw_m7 157 rfl) rfl
theorem q1750 : (Jvm.Cond.code ({ cls := "HalfFairModel", name := "isSet", desc := "(I)Z" } : Jvm.MethodName) prog_20_method_69_code (2 : Nat) (Option.some Jvm.ClassFile.FieldType.boolean)) ∈ lw_all := lw_g (lw_at lw_m7 158 rfl) rfl
theorem q1751 : (Jvm.Cond.methodLink "HalfFairModel" (329 : Nat) ({ cls := "HalfFairModel", name := "isFair", desc := "()Z" } : Jvm.MethodName)) ∈ lw_all := lw_g (lw_at lw_m7 159 rfl) rfl
theorem q1752 : (Jvm.Cond.privateMethod ({ cls := "HalfFairModel", name := "isFair", desc := "()Z" } : Jvm.MethodName)) ∈ lw_tbl := lw_at lw_m7 160 rfl
theorem q1753 : (Jvm.Cond.instanceMethod ({ cls := "HalfFairModel", name := "isFair", desc := "()Z" } : Jvm.MethodName)) ∈ lw_all := lw_g (lw_at lw_m7 161 rfl) rfl
theorem q1754 : (Jvm.Cond.code ({ cls := "HalfFairModel", name := "isFair", desc := "()Z" } : Jvm.MethodName) prog_20_method_49_code (1 : Nat) (Option.some Jvm.ClassFile.FieldType.boolean)) ∈ lw_all := lw_g (lw_at lw_m7 162 rfl) rfl
theorem q1756 : (Jvm.Cond.instanceMethod ({ cls := "HalfFairModel", name := "with", desc := "(II)I" } : Jvm.MethodName)) ∈ lw_all := lw_g (lw_at lw_m7 164 rfl) rfl
theorem q1757 : (Jvm.Cond.selects "HalfFairModel" ({ cls := "HalfFairModel", name := "with", desc := "(II)I" } : Jvm.MethodName) ({ cls := "HalfFairModel", name := "with", desc := "(II)I" } : Jvm.MethodName)) ∈ lw_all := lw_g (lw_at lw_m7 165 rfl) rfl
theorem q1758 : (Jvm.Cond.code ({ cls := "HalfFairModel", name := "with", desc := "(II)I" } : Jvm.MethodName) prog_20_method_71_code (6 : Nat) (Option.some Jvm.ClassFile.FieldType.int)) ∈ lw_all := lw_g (lw_at lw_m7 166 rfl) rfl
theorem q1759 : (Jvm.Cond.methodLink "HalfFairModel" (335 : Nat) ({ cls := "HalfFairModel", name := "isHalf", desc := "(I)Z" } : Jvm.MethodName)) ∈ lw_all := lw_g (lw_at lw_m7 167 rfl) rfl
theorem q1760 : (Jvm.Cond.privateMethod ({ cls := "HalfFairModel", name := "isHalf", desc := "(I)Z" } : Jvm.MethodName)) ∈ lw_tbl := lw_at lw_m7 168 rfl
theorem q1761 : (Jvm.Cond.instanceMethod ({ cls := "HalfFairModel", name := "isHalf", desc := "(I)Z" } : Jvm.MethodName)) ∈ lw_all := lw_g (lw_at lw_m7 169 rfl) rfl
theorem q1762 : (Jvm.Cond.code ({ cls := "HalfFairModel", name := "isHalf", desc := "(I)Z" } : Jvm.MethodName) prog_20_method_50_code (2 : Nat) (Option.some Jvm.ClassFile.FieldType.boolean)) ∈ lw_all := lw_g (lw_at lw_m7 170 rfl) rfl
theorem q1764 : (Jvm.Cond.instanceMethod ({ cls := "HalfFairModel", name := "half", desc := "(II)I" } : Jvm.MethodName)) ∈ lw_all := lw_g (lw_at lw_m7 172 rfl) rfl
theorem q1765 : (Jvm.Cond.selects "HalfFairModel" ({ cls := "HalfFairModel", name := "half", desc := "(II)I" } : Jvm.MethodName) ({ cls := "HalfFairModel", name := "half", desc := "(II)I" } : Jvm.MethodName)) ∈ lw_all := lw_g (lw_at lw_m7 173 rfl) rfl
theorem q1766 : (Jvm.Cond.code ({ cls := "HalfFairModel", name := "half", desc := "(II)I" } : Jvm.MethodName) prog_20_method_72_code (3 : Nat) (Option.some Jvm.ClassFile.FieldType.int)) ∈ lw_all := lw_g (lw_at lw_m7 174 rfl) rfl
theorem q1767 : (Jvm.Cond.constantLong "HalfFairModel" (338 : Nat) (4 : Int64)) ∈ lw_all := lw_g (lw_at lw_m7 175 rfl) rfl
theorem q1768 : (Jvm.Cond.methodLink "HalfFairModel" (340 : Nat) ({ cls := "HalfFairModel", name := "priceOf", desc := "(I)I" } : Jvm.MethodName)) ∈ lw_all := lw_g (lw_at lw_m7 176 rfl) rfl
theorem q1769 : (Jvm.Cond.privateMethod ({ cls := "HalfFairModel", name := "priceOf", desc := "(I)I" } : Jvm.MethodName)) ∈ lw_tbl := lw_at lw_m7 177 rfl
theorem q1770 : (Jvm.Cond.instanceMethod ({ cls := "HalfFairModel", name := "priceOf", desc := "(I)I" } : Jvm.MethodName)) ∈ lw_all := lw_g (lw_at lw_m7 178 rfl) rfl
theorem q1771 : (Jvm.Cond.code ({ cls := "HalfFairModel", name := "priceOf", desc := "(I)I" } : Jvm.MethodName) prog_20_method_55_code (2 : Nat) (Option.some Jvm.ClassFile.FieldType.int)) ∈ lw_all := lw_g (lw_at lw_m7 179 rfl) rfl
theorem q1772 : (Jvm.Cond.methodLink "HalfFairModel" (298 : Nat) ({ cls := "HalfFairModel", name := "isDusk", desc := "()Z" } : Jvm.MethodName)) ∈ lw_all := lw_g (lw_at lw_m7 180 rfl) rfl
theorem q1773 : (Jvm.Cond.privateMethod ({ cls := "HalfFairModel", name := "isDusk", desc := "()Z" } : Jvm.MethodName)) ∈ lw_tbl := lw_at lw_m7 181 rfl
theorem q1774 : (Jvm.Cond.instanceMethod ({ cls := "HalfFairModel", name := "isDusk", desc := "()Z" } : Jvm.MethodName)) ∈ lw_all := lw_g (lw_at lw_m7 182 rfl) rfl
theorem q1775 : (Jvm.Cond.code ({ cls := "HalfFairModel", name := "isDusk", desc := "()Z" } : Jvm.MethodName) prog_20_method_54_code (1 : Nat) (Option.some Jvm.ClassFile.FieldType.boolean)) ∈ lw_all := lw_g (lw_at lw_m7 183 rfl) rfl
theorem q1777 : (Jvm.Cond.instanceMethod ({ cls := "HalfFairModel", name := "fit", desc := "(II)I" } : Jvm.MethodName)) ∈ lw_all := lw_g (lw_at lw_m7 185 rfl) rfl
theorem q1778 : (Jvm.Cond.selects "HalfFairModel" ({ cls := "HalfFairModel", name := "fit", desc := "(II)I" } : Jvm.MethodName) ({ cls := "HalfFairModel", name := "fit", desc := "(II)I" } : Jvm.MethodName)) ∈ lw_all := lw_g (lw_at lw_m7 186 rfl) rfl
theorem q1779 : (Jvm.Cond.code ({ cls := "HalfFairModel", name := "fit", desc := "(II)I" } : Jvm.MethodName) prog_20_method_73_code (3 : Nat) (Option.some Jvm.ClassFile.FieldType.int)) ∈ lw_all := lw_g (lw_at lw_m7 187 rfl) rfl
theorem q1781 : (Jvm.Cond.instanceMethod ({ cls := "HalfFairModel", name := "buyer", desc := "(II)I" } : Jvm.MethodName)) ∈ lw_all := lw_g (lw_at lw_m7 189 rfl) rfl
theorem q1782 : (Jvm.Cond.selects "HalfFairModel" ({ cls := "HalfFairModel", name := "buyer", desc := "(II)I" } : Jvm.MethodName) ({ cls := "HalfFairModel", name := "buyer", desc := "(II)I" } : Jvm.MethodName)) ∈ lw_all := lw_g (lw_at lw_m7 190 rfl) rfl
theorem q1783 : (Jvm.Cond.code ({ cls := "HalfFairModel", name := "buyer", desc := "(II)I" } : Jvm.MethodName) prog_20_method_74_code (3 : Nat) (Option.some Jvm.ClassFile.FieldType.int)) ∈ lw_all := lw_g (lw_at lw_m7 191 rfl) rfl
theorem q1784 : (Jvm.Cond.methodLink "HalfFairModel" (343 : Nat) ({ cls := "HalfFairModel", name := "isBuyer", desc := "(I)Z" } : Jvm.MethodName)) ∈ lw_all := lw_g (lw_at lw_m7 192 rfl) rfl
theorem q1785 : (Jvm.Cond.privateMethod ({ cls := "HalfFairModel", name := "isBuyer", desc := "(I)Z" } : Jvm.MethodName)) ∈ lw_tbl := lw_at lw_m7 193 rfl
theorem q1786 : (Jvm.Cond.instanceMethod ({ cls := "HalfFairModel", name := "isBuyer", desc := "(I)Z" } : Jvm.MethodName)) ∈ lw_all := lw_g (lw_at lw_m7 194 rfl) rfl
theorem q1787 : (Jvm.Cond.code ({ cls := "HalfFairModel", name := "isBuyer", desc := "(I)Z" } : Jvm.MethodName) prog_20_method_51_code (2 : Nat) (Option.some Jvm.ClassFile.FieldType.boolean)) ∈ lw_all := lw_g (lw_at lw_m7 195 rfl) rfl
theorem q1788 : (Jvm.Cond.methodLink "HalfFairModel" (346 : Nat) ({ cls := "HalfFairModel", name := "hasOf", desc := "(I)I" } : Jvm.MethodName)) ∈ lw_all := lw_g (lw_at lw_m7 196 rfl) rfl
theorem q1789 : (Jvm.Cond.privateMethod ({ cls := "HalfFairModel", name := "hasOf", desc := "(I)I" } : Jvm.MethodName)) ∈ lw_tbl := lw_at lw_m7 197 rfl
theorem q1790 : (Jvm.Cond.instanceMethod ({ cls := "HalfFairModel", name := "hasOf", desc := "(I)I" } : Jvm.MethodName)) ∈ lw_all := lw_g (lw_at lw_m7 198 rfl) rfl
theorem q1791 : (Jvm.Cond.code ({ cls := "HalfFairModel", name := "hasOf", desc := "(I)I" } : Jvm.MethodName) prog_20_method_62_code (4 : Nat) (Option.some Jvm.ClassFile.FieldType.int)) ∈ lw_all := lw_g (lw_at lw_m7 199 rfl) rfl
theorem q1792 : (Jvm.Cond.methodLink "HalfFairModel" (349 : Nat) ({ cls := "HalfFairModel", name := "sawOf", desc := "(I)I" } : Jvm.MethodName)) ∈ lw_all := lw_g (lw_at lw_m7 200 rfl) rfl
theorem q1793 : (Jvm.Cond.privateMethod ({ cls := "HalfFairModel", name := "sawOf", desc := "(I)I" } : Jvm.MethodName)) ∈ lw_tbl := lw_at lw_m7 201 rfl
theorem q1794 : (Jvm.Cond.instanceMethod ({ cls := "HalfFairModel", name := "sawOf", desc := "(I)I" } : Jvm.MethodName)) ∈ lw_all := lw_g (lw_at lw_m7 202 rfl) rfl
theorem q1795 : (Jvm.Cond.code ({ cls := "HalfFairModel", name := "sawOf", desc := "(I)I" } : Jvm.MethodName) prog_20_method_65_code (4 : Nat) (Option.some Jvm.ClassFile.FieldType.int)) ∈ lw_all := lw_g (lw_at lw_m7 203 rfl) rfl
theorem q1797 : (Jvm.Cond.instanceMethod ({ cls := "HalfFairModel", name := "spot", desc := "(II)I" } : Jvm.MethodName)) ∈ lw_all := lw_g (lw_at lw_m7 205 rfl) rfl
theorem q1798 : (Jvm.Cond.selects "HalfFairModel" ({ cls := "HalfFairModel", name := "spot", desc := "(II)I" } : Jvm.MethodName) ({ cls := "HalfFairModel", name := "spot", desc := "(II)I" } : Jvm.MethodName)) ∈ lw_all := lw_g (lw_at lw_m7 206 rfl) rfl
theorem q1799 : (Jvm.Cond.code ({ cls := "HalfFairModel", name := "spot", desc := "(II)I" } : Jvm.MethodName) prog_20_method_75_code (3 : Nat) (Option.some Jvm.ClassFile.FieldType.int)) ∈ lw_all := lw_g (lw_at lw_m7 207 rfl) rfl
theorem q1800 : (Jvm.Cond.constantLong "HalfFairModel" (352 : Nat) (99 : Int64)) ∈ lw_all := lw_g (lw_at lw_m7 208 rfl) rfl
theorem q1802 : (Jvm.Cond.instanceMethod ({ cls := "HalfFairModel", name := "undo", desc := "()I" } : Jvm.MethodName)) ∈ lw_all := lw_g (lw_at lw_m7 210 rfl) rfl
theorem q1803 : (Jvm.Cond.selects "HalfFairModel" ({ cls := "HalfFairModel", name := "undo", desc := "()I" } : Jvm.MethodName) ({ cls := "HalfFairModel", name := "undo", desc := "()I" } : Jvm.MethodName)) ∈ lw_all := lw_g (lw_at lw_m7 211 rfl) rfl
theorem q1804 : (Jvm.Cond.code ({ cls := "HalfFairModel", name := "undo", desc := "()I" } : Jvm.MethodName) prog_20_method_77_code (2 : Nat) (Option.some Jvm.ClassFile.FieldType.int)) ∈ lw_all := lw_g (lw_at lw_m7 212 rfl) rfl
theorem q1806 : (Jvm.Cond.instanceMethod ({ cls := "HalfFairModel", name := "go", desc := "(II)I" } : Jvm.MethodName)) ∈ lw_all := lw_g (lw_at lw_m7 214 rfl) rfl
theorem q1807 : (Jvm.Cond.selects "HalfFairModel" ({ cls := "HalfFairModel", name := "go", desc := "(II)I" } : Jvm.MethodName) ({ cls := "HalfFairModel", name := "go", desc := "(II)I" } : Jvm.MethodName)) ∈ lw_all := lw_g (lw_at lw_m7 215 rfl) rfl
theorem q1808 : (Jvm.Cond.code ({ cls := "HalfFairModel", name := "go", desc := "(II)I" } : Jvm.MethodName) prog_20_method_80_code (3 : Nat) (Option.some Jvm.ClassFile.FieldType.int)) ∈ lw_all := lw_g (lw_at lw_m7 216 rfl) rfl
theorem q1809 : (Jvm.Cond.constantLong "HalfFairModel" (354 : Nat) (-1 : Int64)) ∈ lw_all := lw_g (lw_at lw_m7 217 rfl) rfl
theorem q1810 : (Jvm.Cond.methodLink "HalfFairModel" (356 : Nat) ({ cls := "HalfFairModel", name := "keepsAct", desc := "()V" } : Jvm.MethodName)) ∈ lw_all := lw_g (lw_at lw_m7 218 rfl) rfl
theorem q1811 : (Jvm.Cond.privateMethod ({ cls := "HalfFairModel", name := "keepsAct", desc := "()V" } : Jvm.MethodName)) ∈ lw_tbl := lw_at lw_m7 219 rfl
theorem q1812 : (Jvm.Cond.instanceMethod ({ cls := "HalfFairModel", name := "keepsAct", desc := "()V" } : Jvm.MethodName)) ∈ lw_all := lw_g (lw_at lw_m7 220 rfl) rfl
theorem q1813 : (Jvm.Cond.code ({ cls := "HalfFairModel", name := "keepsAct", desc := "()V" } : Jvm.MethodName) prog_20_method_76_code (2 : Nat) (Option.none : Option Jvm.ClassFile.FieldType)) ∈ lw_all := lw_g (lw_at lw_m7 221 rfl) rfl
theorem q1814 : (Jvm.Cond.methodLink "HalfFairModel" (359 : Nat) ({ cls := "HalfFairModel", name := "goes", desc := "(II)V" } : Jvm.MethodName)) ∈ lw_all := lw_g (lw_at lw_m7 222 rfl) rfl
theorem q1815 : (Jvm.Cond.privateMethod ({ cls := "HalfFairModel", name := "goes", desc := "(II)V" } : Jvm.MethodName)) ∈ lw_tbl := lw_at lw_m7 223 rfl
theorem q1816 : (Jvm.Cond.instanceMethod ({ cls := "HalfFairModel", name := "goes", desc := "(II)V" } : Jvm.MethodName)) ∈ lw_all := lw_g (lw_at lw_m7 224 rfl) rfl
theorem q1817 : (Jvm.Cond.code ({ cls := "HalfFairModel", name := "goes", desc := "(II)V" } : Jvm.MethodName) prog_20_method_78_code (4 : Nat) (Option.none : Option Jvm.ClassFile.FieldType)) ∈ lw_all := lw_g (lw_at lw_m7 225 rfl) rfl
theorem q1818 : (Jvm.Cond.methodLink "HalfFairModel" (362 : Nat) ({ cls := "HalfFairModel", name := "hourComes", desc := "()V" } : Jvm.MethodName)) ∈ lw_all := lw_g (lw_at lw_m7 226 rfl) rfl
theorem q1819 : (Jvm.Cond.privateMethod ({ cls := "HalfFairModel", name := "hourComes", desc := "()V" } : Jvm.MethodName)) ∈ lw_tbl := lw_at lw_m7 227 rfl
theorem q1820 : (Jvm.Cond.instanceMethod ({ cls := "HalfFairModel", name := "hourComes", desc := "()V" } : Jvm.MethodName)) ∈ lw_all := lw_g (lw_at lw_m7 228 rfl) rfl
theorem q1821 : (Jvm.Cond.code ({ cls := "HalfFairModel", name := "hourComes", desc := "()V" } : Jvm.MethodName) prog_20_method_79_code (1 : Nat) (Option.none : Option Jvm.ClassFile.FieldType)) ∈ lw_all := lw_g (lw_at lw_m7 229 rfl) rfl
theorem q1823 : (Jvm.Cond.instanceMethod ({ cls := "HalfFairModel", name := "buy", desc := "(II)I" } : Jvm.MethodName)) ∈ lw_all := lw_g (lw_at lw_m7 231 rfl) rfl
theorem q1824 : (Jvm.Cond.selects "HalfFairModel" ({ cls := "HalfFairModel", name := "buy", desc := "(II)I" } : Jvm.MethodName) ({ cls := "HalfFairModel", name := "buy", desc := "(II)I" } : Jvm.MethodName)) ∈ lw_all := lw_g (lw_at lw_m7 232 rfl) rfl
theorem q1825 : (Jvm.Cond.code ({ cls := "HalfFairModel", name := "buy", desc := "(II)I" } : Jvm.MethodName) prog_20_method_83_code (3 : Nat) (Option.some Jvm.ClassFile.FieldType.int)) ∈ lw_all := lw_g (lw_at lw_m7 233 rfl) rfl
theorem q1826 : (Jvm.Cond.methodLink "HalfFairModel" (365 : Nat) ({ cls := "HalfFairModel", name := "canBuy", desc := "(II)Z" } : Jvm.MethodName)) ∈ lw_all := lw_g (lw_at lw_m7 234 rfl) rfl
theorem q1827 : (Jvm.Cond.privateMethod ({ cls := "HalfFairModel", name := "canBuy", desc := "(II)Z" } : Jvm.MethodName)) ∈ lw_tbl := lw_at lw_m7 235 rfl
theorem q1828 : (Jvm.Cond.instanceMethod ({ cls := "HalfFairModel", name := "canBuy", desc := "(II)Z" } : Jvm.MethodName)) ∈ lw_all := lw_g (lw_at lw_m7 236 rfl) rfl
theorem q1829 : (Jvm.Cond.code ({ cls := "HalfFairModel", name := "canBuy", desc := "(II)Z" } : Jvm.MethodName) prog_20_method_81_code (3 : Nat) (Option.some Jvm.ClassFile.FieldType.boolean)) ∈ lw_all := lw_g (lw_at lw_m7 237 rfl) rfl
theorem q1830 : (Jvm.Cond.methodLink "HalfFairModel" (368 : Nat) ({ cls := "HalfFairModel", name := "buys", desc := "(II)V" } : Jvm.MethodName)) ∈ lw_all := lw_g (lw_at lw_m7 238 rfl) rfl
theorem q1831 : (Jvm.Cond.privateMethod ({ cls := "HalfFairModel", name := "buys", desc := "(II)V" } : Jvm.MethodName)) ∈ lw_tbl := lw_at lw_m7 239 rfl
theorem q1832 : (Jvm.Cond.instanceMethod ({ cls := "HalfFairModel", name := "buys", desc := "(II)V" } : Jvm.MethodName)) ∈ lw_all := lw_g (lw_at lw_m8 0 rfl) rfl
theorem q1833 : (Jvm.Cond.code ({ cls := "HalfFairModel", name := "buys", desc := "(II)V" } : Jvm.MethodName) prog_20_method_82_code (3 : Nat) (Option.none : Option Jvm.ClassFile.FieldType)) ∈ lw_all := lw_g (lw_at lw_m8 1 rfl) rfl
theorem q1835 : (Jvm.Cond.instanceMethod ({ cls := "HalfFairModel", name := "shout", desc := "(II)I" } : Jvm.MethodName)) ∈ lw_all := lw_g (lw_at lw_m8 3 rfl) rfl
theorem q1836 : (Jvm.Cond.selects "HalfFairModel" ({ cls := "HalfFairModel", name := "shout", desc := "(II)I" } : Jvm.MethodName) ({ cls := "HalfFairModel", name := "shout", desc := "(II)I" } : Jvm.MethodName)) ∈ lw_all := lw_g (lw_at lw_m8 4 rfl) rfl
theorem q1837 : (Jvm.Cond.code ({ cls := "HalfFairModel", name := "shout", desc := "(II)I" } : Jvm.MethodName) prog_20_method_84_code (6 : Nat) (Option.some Jvm.ClassFile.FieldType.int)) ∈ lw_all := lw_g (lw_at lw_m8 5 rfl) rfl
theorem q1838 : (Jvm.Cond.methodLink "HalfFairModel" (371 : Nat) ({ cls := "HalfFairModel", name := "far", desc := "(II)I" } : Jvm.MethodName)) ∈ lw_all := lw_g (lw_at lw_m8 6 rfl) rfl
theorem q1839 : (Jvm.Cond.privateMethod ({ cls := "HalfFairModel", name := "far", desc := "(II)I" } : Jvm.MethodName)) ∈ lw_tbl := lw_at lw_m8 7 rfl
theorem q1840 : (Jvm.Cond.instanceMethod ({ cls := "HalfFairModel", name := "far", desc := "(II)I" } : Jvm.MethodName)) ∈ lw_all := lw_g (lw_at lw_m8 8 rfl) rfl
theorem q1841 : (Jvm.Cond.code ({ cls := "HalfFairModel", name := "far", desc := "(II)I" } : Jvm.MethodName) prog_20_method_58_code (4 : Nat) (Option.some Jvm.ClassFile.FieldType.int)) ∈ lw_all := lw_g (lw_at lw_m8 9 rfl) rfl
theorem q1842 : (Jvm.Cond.methodLink "HalfFairModel" (374 : Nat) ({ cls := "HalfFairModel", name := "bits", desc := "(I)I" } : Jvm.MethodName)) ∈ lw_all := lw_g (lw_at lw_m8 10 rfl) rfl
theorem q1843 : (Jvm.Cond.static ({ cls := "HalfFairModel", name := "bits", desc := "(I)I" } : Jvm.MethodName)) ∈ lw_all := lw_g (lw_at lw_m8 11 rfl) rfl
theorem q1844 : (Jvm.Cond.code ({ cls := "HalfFairModel", name := "bits", desc := "(I)I" } : Jvm.MethodName) prog_20_method_4_code (3 : Nat) (Option.some Jvm.ClassFile.FieldType.int)) ∈ lw_all := lw_g (lw_at lw_m8 12 rfl) rfl
theorem q1846 : (Jvm.Cond.instanceMethod ({ cls := "HalfFairModel", name := "swap", desc := "(IIII)Z" } : Jvm.MethodName)) ∈ lw_all := lw_g (lw_at lw_m8 14 rfl) rfl
theorem q1847 : (Jvm.Cond.selects "HalfFairModel" ({ cls := "HalfFairModel", name := "swap", desc := "(IIII)Z" } : Jvm.MethodName) ({ cls := "HalfFairModel", name := "swap", desc := "(IIII)Z" } : Jvm.MethodName)) ∈ lw_all := lw_g (lw_at lw_m8 15 rfl) rfl
theorem q1848 : (Jvm.Cond.code ({ cls := "HalfFairModel", name := "swap", desc := "(IIII)Z" } : Jvm.MethodName) prog_20_method_86_code (5 : Nat) (Option.some Jvm.ClassFile.FieldType.boolean)) ∈ lw_all := lw_g (lw_at lw_m8 16 rfl) rfl
theorem q1849 : (Jvm.Cond.methodLink "HalfFairModel" (377 : Nat) ({ cls := "HalfFairModel", name := "areTheirs", desc := "(IIII)Z" } : Jvm.MethodName)) ∈ lw_all := lw_g (lw_at lw_m8 17 rfl) rfl
theorem q1850 : (Jvm.Cond.privateMethod ({ cls := "HalfFairModel", name := "areTheirs", desc := "(IIII)Z" } : Jvm.MethodName)) ∈ lw_tbl := lw_at lw_m8 18 rfl
theorem q1851 : (Jvm.Cond.instanceMethod ({ cls := "HalfFairModel", name := "areTheirs", desc := "(IIII)Z" } : Jvm.MethodName)) ∈ lw_all := lw_g (lw_at lw_m8 19 rfl) rfl
theorem q1852 : (Jvm.Cond.code ({ cls := "HalfFairModel", name := "areTheirs", desc := "(IIII)Z" } : Jvm.MethodName) prog_20_method_85_code (5 : Nat) (Option.some Jvm.ClassFile.FieldType.boolean)) ∈ lw_all := lw_g (lw_at lw_m8 20 rfl) rfl
theorem q1854 : (Jvm.Cond.instanceMethod ({ cls := "HalfFairModel", name := "giveUp", desc := "(II)I" } : Jvm.MethodName)) ∈ lw_all := lw_g (lw_at lw_m8 22 rfl) rfl
theorem q1855 : (Jvm.Cond.selects "HalfFairModel" ({ cls := "HalfFairModel", name := "giveUp", desc := "(II)I" } : Jvm.MethodName) ({ cls := "HalfFairModel", name := "giveUp", desc := "(II)I" } : Jvm.MethodName)) ∈ lw_all := lw_g (lw_at lw_m8 23 rfl) rfl
theorem q1856 : (Jvm.Cond.code ({ cls := "HalfFairModel", name := "giveUp", desc := "(II)I" } : Jvm.MethodName) prog_20_method_87_code (3 : Nat) (Option.some Jvm.ClassFile.FieldType.int)) ∈ lw_all := lw_g (lw_at lw_m8 24 rfl) rfl
theorem q1858 : (Jvm.Cond.instanceMethod ({ cls := "HalfFairModel", name := "run", desc := "(II)I" } : Jvm.MethodName)) ∈ lw_all := lw_g (lw_at lw_m8 26 rfl) rfl
theorem q1859 : (Jvm.Cond.selects "HalfFairModel" ({ cls := "HalfFairModel", name := "run", desc := "(II)I" } : Jvm.MethodName) ({ cls := "HalfFairModel", name := "run", desc := "(II)I" } : Jvm.MethodName)) ∈ lw_all := lw_g (lw_at lw_m8 27 rfl) rfl
theorem q1860 : (Jvm.Cond.code ({ cls := "HalfFairModel", name := "run", desc := "(II)I" } : Jvm.MethodName) prog_20_method_96_code (4 : Nat) (Option.some Jvm.ClassFile.FieldType.int)) ∈ lw_all := lw_g (lw_at lw_m8 28 rfl) rfl
theorem q1861 : (Jvm.Cond.methodLink "HalfFairModel" (413 : Nat) ({ cls := "HalfFairModel", name := "isRule", desc := "(I)Z" } : Jvm.MethodName)) ∈ lw_all := lw_g (lw_at lw_m8 29 rfl) rfl
theorem q1862 : (Jvm.Cond.privateMethod ({ cls := "HalfFairModel", name := "isRule", desc := "(I)Z" } : Jvm.MethodName)) ∈ lw_tbl := lw_at lw_m8 30 rfl
theorem q1863 : (Jvm.Cond.instanceMethod ({ cls := "HalfFairModel", name := "isRule", desc := "(I)Z" } : Jvm.MethodName)) ∈ lw_all := lw_g (lw_at lw_m8 31 rfl) rfl
theorem q1864 : (Jvm.Cond.code ({ cls := "HalfFairModel", name := "isRule", desc := "(I)Z" } : Jvm.MethodName) prog_20_method_44_code (2 : Nat) (Option.some Jvm.ClassFile.FieldType.boolean)) ∈ lw_all := lw_g (lw_at lw_m8 32 rfl) rfl
theorem q1865 : (Jvm.Cond.constantLong "HalfFairModel" (416 : Nat) (48 : Int64)) ∈ lw_all := lw_g (lw_at lw_m8 33 rfl) rfl
theorem q1866 : (Jvm.Cond.methodLink "HalfFairModel" (418 : Nat) ({ cls := "HalfFairModel", name := "passes", desc := "(I)V" } : Jvm.MethodName)) ∈ lw_all := lw_g (lw_at lw_m8 34 rfl) rfl
theorem q1867 : (Jvm.Cond.privateMethod ({ cls := "HalfFairModel", name := "passes", desc := "(I)V" } : Jvm.MethodName)) ∈ lw_tbl := lw_at lw_m8 35 rfl
theorem q1868 : (Jvm.Cond.instanceMethod ({ cls := "HalfFairModel", name := "passes", desc := "(I)V" } : Jvm.MethodName)) ∈ lw_all := lw_g (lw_at lw_m8 36 rfl) rfl
theorem q1869 : (Jvm.Cond.code ({ cls := "HalfFairModel", name := "passes", desc := "(I)V" } : Jvm.MethodName) prog_20_method_95_code (3 : Nat) (Option.none : Option Jvm.ClassFile.FieldType)) ∈ lw_all := lw_g (lw_at lw_m8 37 rfl) rfl
theorem q1870 : (Jvm.Cond.methodLink "HalfFairModel" (407 : Nat) ({ cls := "HalfFairModel", name := "buysAll", desc := "(II)V" } : Jvm.MethodName)) ∈ lw_all := lw_g (lw_at lw_m8 38 rfl) rfl
theorem q1871 : (Jvm.Cond.privateMethod ({ cls := "HalfFairModel", name := "buysAll", desc := "(II)V" } : Jvm.MethodName)) ∈ lw_tbl := lw_at lw_m8 39 rfl
theorem q1872 : (Jvm.Cond.instanceMethod ({ cls := "HalfFairModel", name := "buysAll", desc := "(II)V" } : Jvm.MethodName)) ∈ lw_all := lw_g (lw_at lw_m8 40 rfl) rfl
theorem q1873 : (Jvm.Cond.code ({ cls := "HalfFairModel", name := "buysAll", desc := "(II)V" } : Jvm.MethodName) prog_20_method_93_code (4 : Nat) (Option.none : Option Jvm.ClassFile.FieldType)) ∈ lw_all := lw_g (lw_at lw_m8 41 rfl) rfl
theorem q1874 : (Jvm.Cond.methodLink "HalfFairModel" (401 : Nat) ({ cls := "HalfFairModel", name := "nextFor", desc := "(II)I" } : Jvm.MethodName)) ∈ lw_all := lw_g (lw_at lw_m8 42 rfl) rfl
theorem q1875 : (Jvm.Cond.privateMethod ({ cls := "HalfFairModel", name := "nextFor", desc := "(II)I" } : Jvm.MethodName)) ∈ lw_tbl := lw_at lw_m8 43 rfl
theorem q1876 : (Jvm.Cond.instanceMethod ({ cls := "HalfFairModel", name := "nextFor", desc := "(II)I" } : Jvm.MethodName)) ∈ lw_all := lw_g (lw_at lw_m8 44 rfl) rfl
theorem q1877 : (Jvm.Cond.code ({ cls := "HalfFairModel", name := "nextFor", desc := "(II)I" } : Jvm.MethodName) prog_20_method_92_code (9 : Nat) (Option.some Jvm.ClassFile.FieldType.int)) ∈ lw_all := lw_g (lw_at lw_m8 45 rfl) rfl
theorem q1878 : (Jvm.Cond.methodLink "HalfFairModel" (394 : Nat) ({ cls := "HalfFairModel", name := "wordsFor", desc := "(II)V" } : Jvm.MethodName)) ∈ lw_all := lw_g (lw_at lw_m8 46 rfl) rfl
theorem q1879 : (Jvm.Cond.privateMethod ({ cls := "HalfFairModel", name := "wordsFor", desc := "(II)V" } : Jvm.MethodName)) ∈ lw_tbl := lw_at lw_m8 47 rfl
theorem q1880 : (Jvm.Cond.instanceMethod ({ cls := "HalfFairModel", name := "wordsFor", desc := "(II)V" } : Jvm.MethodName)) ∈ lw_all := lw_g (lw_at lw_m8 48 rfl) rfl
theorem q1881 : (Jvm.Cond.code ({ cls := "HalfFairModel", name := "wordsFor", desc := "(II)V" } : Jvm.MethodName) prog_20_method_90_code (3 : Nat) (Option.none : Option Jvm.ClassFile.FieldType)) ∈ lw_all := lw_g (lw_at lw_m8 49 rfl) rfl
theorem q1882 : (Jvm.Cond.methodLink "HalfFairModel" (380 : Nat) ({ cls := "HalfFairModel", name := "wordsOf", desc := "(I)V" } : Jvm.MethodName)) ∈ lw_all := lw_g (lw_at lw_m8 50 rfl) rfl
theorem q1883 : (Jvm.Cond.privateMethod ({ cls := "HalfFairModel", name := "wordsOf", desc := "(I)V" } : Jvm.MethodName)) ∈ lw_tbl := lw_at lw_m8 51 rfl
theorem q1884 : (Jvm.Cond.instanceMethod ({ cls := "HalfFairModel", name := "wordsOf", desc := "(I)V" } : Jvm.MethodName)) ∈ lw_all := lw_g (lw_at lw_m8 52 rfl) rfl
theorem q1885 : (Jvm.Cond.code ({ cls := "HalfFairModel", name := "wordsOf", desc := "(I)V" } : Jvm.MethodName) prog_20_method_88_code (3 : Nat) (Option.none : Option Jvm.ClassFile.FieldType)) ∈ lw_all := lw_g (lw_at lw_m8 53 rfl) rfl
theorem q1886 : (Jvm.Cond.methodLink "HalfFairModel" (383 : Nat) ({ cls := "HalfFairModel", name := "fitting", desc := "(III)I" } : Jvm.MethodName)) ∈ lw_all := lw_g (lw_at lw_m8 54 rfl) rfl
theorem q1887 : (Jvm.Cond.privateMethod ({ cls := "HalfFairModel", name := "fitting", desc := "(III)I" } : Jvm.MethodName)) ∈ lw_tbl := lw_at lw_m8 55 rfl
theorem q1888 : (Jvm.Cond.instanceMethod ({ cls := "HalfFairModel", name := "fitting", desc := "(III)I" } : Jvm.MethodName)) ∈ lw_all := lw_g (lw_at lw_m8 56 rfl) rfl
theorem q1889 : (Jvm.Cond.code ({ cls := "HalfFairModel", name := "fitting", desc := "(III)I" } : Jvm.MethodName) prog_20_method_89_code (6 : Nat) (Option.some Jvm.ClassFile.FieldType.int)) ∈ lw_all := lw_g (lw_at lw_m8 57 rfl) rfl
theorem q1890 : (Jvm.Cond.methodLink "HalfFairModel" (387 : Nat) ({ cls := "HalfFairModel", name := "atStalls", desc := "()I" } : Jvm.MethodName)) ∈ lw_all := lw_g (lw_at lw_m8 58 rfl) rfl
theorem q1891 : (Jvm.Cond.privateMethod ({ cls := "HalfFairModel", name := "atStalls", desc := "()I" } : Jvm.MethodName)) ∈ lw_tbl := lw_at lw_m8 59 rfl
theorem q1892 : (Jvm.Cond.instanceMethod ({ cls := "HalfFairModel", name := "atStalls", desc := "()I" } : Jvm.MethodName)) ∈ lw_all := lw_g (lw_at lw_m8 60 rfl) rfl
theorem q1893 : (Jvm.Cond.code ({ cls := "HalfFairModel", name := "atStalls", desc := "()I" } : Jvm.MethodName) prog_20_method_64_code (3 : Nat) (Option.some Jvm.ClassFile.FieldType.int)) ∈ lw_all := lw_g (lw_at lw_m8 61 rfl) rfl
theorem q1894 : (Jvm.Cond.methodLink "HalfFairModel" (397 : Nat) ({ cls := "HalfFairModel", name := "summedBy", desc := "(II)J" } : Jvm.MethodName)) ∈ lw_all := lw_g (lw_at lw_m8 62 rfl) rfl
theorem q1895 : (Jvm.Cond.privateMethod ({ cls := "HalfFairModel", name := "summedBy", desc := "(II)J" } : Jvm.MethodName)) ∈ lw_tbl := lw_at lw_m8 63 rfl
theorem q1896 : (Jvm.Cond.instanceMethod ({ cls := "HalfFairModel", name := "summedBy", desc := "(II)J" } : Jvm.MethodName)) ∈ lw_all := lw_g (lw_at lw_m8 64 rfl) rfl
theorem q1897 : (Jvm.Cond.code ({ cls := "HalfFairModel", name := "summedBy", desc := "(II)J" } : Jvm.MethodName) prog_20_method_91_code (5 : Nat) (Option.some Jvm.ClassFile.FieldType.long)) ∈ lw_all := lw_g (lw_at lw_m8 65 rfl) rfl
theorem q1898 : (Jvm.Cond.methodLink "HalfFairModel" (390 : Nat) ({ cls := "HalfFairModel", name := "reckons", desc := "(III)J" } : Jvm.MethodName)) ∈ lw_all := lw_g (lw_at lw_m8 66 rfl) rfl
theorem q1899 : (Jvm.Cond.privateMethod ({ cls := "HalfFairModel", name := "reckons", desc := "(III)J" } : Jvm.MethodName)) ∈ lw_tbl := lw_at lw_m8 67 rfl
theorem q1900 : (Jvm.Cond.instanceMethod ({ cls := "HalfFairModel", name := "reckons", desc := "(III)J" } : Jvm.MethodName)) ∈ lw_all := lw_g (lw_at lw_m8 68 rfl) rfl
theorem q1901 : (Jvm.Cond.code ({ cls := "HalfFairModel", name := "reckons", desc := "(III)J" } : Jvm.MethodName) prog_20_method_48_code (11 : Nat) (Option.some Jvm.ClassFile.FieldType.long)) ∈ lw_all := lw_g (lw_at lw_m8 69 rfl) rfl
theorem q1902 : (Jvm.Cond.methodLink "HalfFairModel" (286 : Nat) ({ cls := "HalfFairModel", name := "push", desc := "(J)V" } : Jvm.MethodName)) ∈ lw_all := lw_g (lw_at lw_m8 70 rfl) rfl
theorem q1903 : (Jvm.Cond.privateMethod ({ cls := "HalfFairModel", name := "push", desc := "(J)V" } : Jvm.MethodName)) ∈ lw_tbl := lw_at lw_m8 71 rfl
theorem q1904 : (Jvm.Cond.instanceMethod ({ cls := "HalfFairModel", name := "push", desc := "(J)V" } : Jvm.MethodName)) ∈ lw_all := lw_g (lw_at lw_m8 72 rfl) rfl
theorem q1905 : (Jvm.Cond.code ({ cls := "HalfFairModel", name := "push", desc := "(J)V" } : Jvm.MethodName) prog_20_method_45_code (3 : Nat) (Option.none : Option Jvm.ClassFile.FieldType)) ∈ lw_all := lw_g (lw_at lw_m8 73 rfl) rfl
theorem q1906 : (Jvm.Cond.methodLink "HalfFairModel" (290 : Nat) ({ cls := "HalfFairModel", name := "pop", desc := "()J" } : Jvm.MethodName)) ∈ lw_all := lw_g (lw_at lw_m8 74 rfl) rfl
theorem q1907 : (Jvm.Cond.privateMethod ({ cls := "HalfFairModel", name := "pop", desc := "()J" } : Jvm.MethodName)) ∈ lw_tbl := lw_at lw_m8 75 rfl
theorem q1908 : (Jvm.Cond.instanceMethod ({ cls := "HalfFairModel", name := "pop", desc := "()J" } : Jvm.MethodName)) ∈ lw_all := lw_g (lw_at lw_m8 76 rfl) rfl
theorem q1909 : (Jvm.Cond.code ({ cls := "HalfFairModel", name := "pop", desc := "()J" } : Jvm.MethodName) prog_20_method_46_code (1 : Nat) (Option.some Jvm.ClassFile.FieldType.long)) ∈ lw_all := lw_g (lw_at lw_m8 77 rfl) rfl
theorem q1910 : (Jvm.Cond.methodLink "HalfFairModel" (294 : Nat) ({ cls := "HalfFairModel", name := "one", desc := "(IJJ)J" } : Jvm.MethodName)) ∈ lw_all := lw_g (lw_at lw_m8 78 rfl) rfl
theorem q1911 : (Jvm.Cond.static ({ cls := "HalfFairModel", name := "one", desc := "(IJJ)J" } : Jvm.MethodName)) ∈ lw_all := lw_g (lw_at lw_m8 79 rfl) rfl
theorem q1912 : (Jvm.Cond.code ({ cls := "HalfFairModel", name := "one", desc := "(IJJ)J" } : Jvm.MethodName) prog_20_method_47_code (5 : Nat) (Option.some Jvm.ClassFile.FieldType.long)) ∈ lw_all := lw_g (lw_at lw_m8 80 rfl) rfl
theorem q1913 : (Jvm.Cond.methodLink "HalfFairModel" (410 : Nat) ({ cls := "HalfFairModel", name := "goingBy", desc := "(II)I" } : Jvm.MethodName)) ∈ lw_all := lw_g (lw_at lw_m8 81 rfl) rfl
theorem q1914 : (Jvm.Cond.privateMethod ({ cls := "HalfFairModel", name := "goingBy", desc := "(II)I" } : Jvm.MethodName)) ∈ lw_tbl := lw_at lw_m8 82 rfl
theorem q1915 : (Jvm.Cond.instanceMethod ({ cls := "HalfFairModel", name := "goingBy", desc := "(II)I" } : Jvm.MethodName)) ∈ lw_all := lw_g (lw_at lw_m8 83 rfl) rfl
theorem q1916 : (Jvm.Cond.code ({ cls := "HalfFairModel", name := "goingBy", desc := "(II)I" } : Jvm.MethodName) prog_20_method_94_code (5 : Nat) (Option.some Jvm.ClassFile.FieldType.int)) ∈ lw_all := lw_g (lw_at lw_m8 84 rfl) rfl
theorem q1918 : (Jvm.Cond.instanceMethod ({ cls := "HalfFairModel", name := "walk", desc := "(II)I" } : Jvm.MethodName)) ∈ lw_all := lw_g (lw_at lw_m8 86 rfl) rfl
theorem q1919 : (Jvm.Cond.selects "HalfFairModel" ({ cls := "HalfFairModel", name := "walk", desc := "(II)I" } : Jvm.MethodName) ({ cls := "HalfFairModel", name := "walk", desc := "(II)I" } : Jvm.MethodName)) ∈ lw_all := lw_g (lw_at lw_m8 87 rfl) rfl
theorem q1920 : (Jvm.Cond.code ({ cls := "HalfFairModel", name := "walk", desc := "(II)I" } : Jvm.MethodName) prog_20_method_102_code (6 : Nat) (Option.some Jvm.ClassFile.FieldType.int)) ∈ lw_all := lw_g (lw_at lw_m8 88 rfl) rfl
theorem q1921 : (Jvm.Cond.constantLong "HalfFairModel" (440 : Nat) (2 : Int64)) ∈ lw_all := lw_g (lw_at lw_m8 89 rfl) rfl
theorem q1922 : (Jvm.Cond.methodLink "HalfFairModel" (442 : Nat) ({ cls := "HalfFairModel", name := "walksTill", desc := "(II)V" } : Jvm.MethodName)) ∈ lw_all := lw_g (lw_at lw_m8 90 rfl) rfl
theorem q1923 : (Jvm.Cond.privateMethod ({ cls := "HalfFairModel", name := "walksTill", desc := "(II)V" } : Jvm.MethodName)) ∈ lw_tbl := lw_at lw_m8 91 rfl
theorem q1924 : (Jvm.Cond.instanceMethod ({ cls := "HalfFairModel", name := "walksTill", desc := "(II)V" } : Jvm.MethodName)) ∈ lw_all := lw_g (lw_at lw_m8 92 rfl) rfl
theorem q1925 : (Jvm.Cond.code ({ cls := "HalfFairModel", name := "walksTill", desc := "(II)V" } : Jvm.MethodName) prog_20_method_99_code (5 : Nat) (Option.none : Option Jvm.ClassFile.FieldType)) ∈ lw_all := lw_g (lw_at lw_m8 93 rfl) rfl
theorem q1926 : (Jvm.Cond.methodLink "HalfFairModel" (421 : Nat) ({ cls := "HalfFairModel", name := "placeOf", desc := "(II)I" } : Jvm.MethodName)) ∈ lw_all := lw_g (lw_at lw_m8 94 rfl) rfl
theorem q1927 : (Jvm.Cond.static ({ cls := "HalfFairModel", name := "placeOf", desc := "(II)I" } : Jvm.MethodName)) ∈ lw_all := lw_g (lw_at lw_m8 95 rfl) rfl
theorem q1928 : (Jvm.Cond.code ({ cls := "HalfFairModel", name := "placeOf", desc := "(II)I" } : Jvm.MethodName) prog_20_method_97_code (2 : Nat) (Option.some Jvm.ClassFile.FieldType.int)) ∈ lw_all := lw_g (lw_at lw_m8 96 rfl) rfl
theorem q1929 : (Jvm.Cond.methodLink "HalfFairModel" (424 : Nat) ({ cls := "HalfFairModel", name := "walksOn", desc := "(IZ)V" } : Jvm.MethodName)) ∈ lw_all := lw_g (lw_at lw_m8 97 rfl) rfl
theorem q1930 : (Jvm.Cond.privateMethod ({ cls := "HalfFairModel", name := "walksOn", desc := "(IZ)V" } : Jvm.MethodName)) ∈ lw_tbl := lw_at lw_m8 98 rfl
theorem q1931 : (Jvm.Cond.instanceMethod ({ cls := "HalfFairModel", name := "walksOn", desc := "(IZ)V" } : Jvm.MethodName)) ∈ lw_all := lw_g (lw_at lw_m8 99 rfl) rfl
theorem q1932 : (Jvm.Cond.code ({ cls := "HalfFairModel", name := "walksOn", desc := "(IZ)V" } : Jvm.MethodName) prog_20_method_98_code (8 : Nat) (Option.none : Option Jvm.ClassFile.FieldType)) ∈ lw_all := lw_g (lw_at lw_m8 100 rfl) rfl
theorem q1933 : (Jvm.Cond.methodLink "HalfFairModel" (445 : Nat) ({ cls := "HalfFairModel", name := "offers", desc := "(II)V" } : Jvm.MethodName)) ∈ lw_all := lw_g (lw_at lw_m8 101 rfl) rfl
theorem q1934 : (Jvm.Cond.privateMethod ({ cls := "HalfFairModel", name := "offers", desc := "(II)V" } : Jvm.MethodName)) ∈ lw_tbl := lw_at lw_m8 102 rfl
theorem q1935 : (Jvm.Cond.instanceMethod ({ cls := "HalfFairModel", name := "offers", desc := "(II)V" } : Jvm.MethodName)) ∈ lw_all := lw_g (lw_at lw_m8 103 rfl) rfl
theorem q1936 : (Jvm.Cond.code ({ cls := "HalfFairModel", name := "offers", desc := "(II)V" } : Jvm.MethodName) prog_20_method_101_code (8 : Nat) (Option.none : Option Jvm.ClassFile.FieldType)) ∈ lw_all := lw_g (lw_at lw_m8 104 rfl) rfl
theorem q1937 : (Jvm.Cond.methodLink "HalfFairModel" (431 : Nat) ({ cls := "HalfFairModel", name := "goingsFor", desc := "(I)I" } : Jvm.MethodName)) ∈ lw_all := lw_g (lw_at lw_m8 105 rfl) rfl
theorem q1938 : (Jvm.Cond.privateMethod ({ cls := "HalfFairModel", name := "goingsFor", desc := "(I)I" } : Jvm.MethodName)) ∈ lw_tbl := lw_at lw_m8 106 rfl
theorem q1939 : (Jvm.Cond.instanceMethod ({ cls := "HalfFairModel", name := "goingsFor", desc := "(I)I" } : Jvm.MethodName)) ∈ lw_all := lw_g (lw_at lw_m8 107 rfl) rfl
theorem q1940 : (Jvm.Cond.code ({ cls := "HalfFairModel", name := "goingsFor", desc := "(I)I" } : Jvm.MethodName) prog_20_method_100_code (4 : Nat) (Option.some Jvm.ClassFile.FieldType.int)) ∈ lw_all := lw_g (lw_at lw_m8 108 rfl) rfl
theorem q1942 : (Jvm.Cond.instanceMethod ({ cls := "HalfFairModel", name := "chance", desc := "(III)I" } : Jvm.MethodName)) ∈ lw_all := lw_g (lw_at lw_m8 110 rfl) rfl
theorem q1943 : (Jvm.Cond.selects "HalfFairModel" ({ cls := "HalfFairModel", name := "chance", desc := "(III)I" } : Jvm.MethodName) ({ cls := "HalfFairModel", name := "chance", desc := "(III)I" } : Jvm.MethodName)) ∈ lw_all := lw_g (lw_at lw_m8 111 rfl) rfl
theorem q1944 : (Jvm.Cond.code ({ cls := "HalfFairModel", name := "chance", desc := "(III)I" } : Jvm.MethodName) prog_20_method_105_code (6 : Nat) (Option.some Jvm.ClassFile.FieldType.int)) ∈ lw_all := lw_g (lw_at lw_m8 112 rfl) rfl
theorem q1945 : (Jvm.Cond.methodLink "HalfFairModel" (448 : Nat) ({ cls := "HalfFairModel", name := "unseen", desc := "(I)I" } : Jvm.MethodName)) ∈ lw_all := lw_g (lw_at lw_m8 113 rfl) rfl
theorem q1946 : (Jvm.Cond.privateMethod ({ cls := "HalfFairModel", name := "unseen", desc := "(I)I" } : Jvm.MethodName)) ∈ lw_tbl := lw_at lw_m8 114 rfl
theorem q1947 : (Jvm.Cond.instanceMethod ({ cls := "HalfFairModel", name := "unseen", desc := "(I)I" } : Jvm.MethodName)) ∈ lw_all := lw_g (lw_at lw_m8 115 rfl) rfl
theorem q1948 : (Jvm.Cond.code ({ cls := "HalfFairModel", name := "unseen", desc := "(I)I" } : Jvm.MethodName) prog_20_method_104_code (2 : Nat) (Option.some Jvm.ClassFile.FieldType.int)) ∈ lw_all := lw_g (lw_at lw_m8 116 rfl) rfl
theorem q1949 : (Jvm.Cond.methodLink "HalfFairModel" (451 : Nat) ({ cls := "HalfFairModel", name := "divisor", desc := "(II)I" } : Jvm.MethodName)) ∈ lw_all := lw_g (lw_at lw_m8 117 rfl) rfl
theorem q1950 : (Jvm.Cond.static ({ cls := "HalfFairModel", name := "divisor", desc := "(II)I" } : Jvm.MethodName)) ∈ lw_all := lw_g (lw_at lw_m8 118 rfl) rfl
theorem q1951 : (Jvm.Cond.code ({ cls := "HalfFairModel", name := "divisor", desc := "(II)I" } : Jvm.MethodName) prog_20_method_103_code (5 : Nat) (Option.some Jvm.ClassFile.FieldType.int)) ∈ lw_all := lw_g (lw_at lw_m8 119 rfl) rfl
theorem q1953 : (Jvm.Cond.instanceMethod ({ cls := "HalfFairModel", name := "yields", desc := "(IIIII)I" } : Jvm.MethodName)) ∈ lw_all := lw_g (lw_at lw_m8 121 rfl) rfl
theorem q1954 : (Jvm.Cond.selects "HalfFairModel" ({ cls := "HalfFairModel", name := "yields", desc := "(IIIII)I" } : Jvm.MethodName) ({ cls := "HalfFairModel", name := "yields", desc := "(IIIII)I" } : Jvm.MethodName)) ∈ lw_all := lw_g (lw_at lw_m8 122 rfl) rfl
theorem q1955 : (Jvm.Cond.code ({ cls := "HalfFairModel", name := "yields", desc := "(IIIII)I" } : Jvm.MethodName) prog_20_method_107_code (8 : Nat) (Option.some Jvm.ClassFile.FieldType.int)) ∈ lw_all := lw_g (lw_at lw_m8 123 rfl) rfl
theorem q1956 : (Jvm.Cond.methodLink "HalfFairModel" (454 : Nat) ({ cls := "HalfFairModel", name := "givesFor", desc := "(II)I" } : Jvm.MethodName)) ∈ lw_all := lw_g (lw_at lw_m8 124 rfl) rfl
theorem q1957 : (Jvm.Cond.privateMethod ({ cls := "HalfFairModel", name := "givesFor", desc := "(II)I" } : Jvm.MethodName)) ∈ lw_tbl := lw_at lw_m8 125 rfl
theorem q1958 : (Jvm.Cond.instanceMethod ({ cls := "HalfFairModel", name := "givesFor", desc := "(II)I" } : Jvm.MethodName)) ∈ lw_all := lw_g (lw_at lw_m8 126 rfl) rfl
theorem q1959 : (Jvm.Cond.code ({ cls := "HalfFairModel", name := "givesFor", desc := "(II)I" } : Jvm.MethodName) prog_20_method_106_code (3 : Nat) (Option.some Jvm.ClassFile.FieldType.int)) ∈ lw_all := lw_g (lw_at lw_m8 127 rfl) rfl
theorem q1961 : (Jvm.Cond.instanceMethod ({ cls := "HalfFairModel", name := "cry", desc := "(II)I" } : Jvm.MethodName)) ∈ lw_all := lw_g (lw_at lw_m8 129 rfl) rfl
theorem q1962 : (Jvm.Cond.selects "HalfFairModel" ({ cls := "HalfFairModel", name := "cry", desc := "(II)I" } : Jvm.MethodName) ({ cls := "HalfFairModel", name := "cry", desc := "(II)I" } : Jvm.MethodName)) ∈ lw_all := lw_g (lw_at lw_m8 130 rfl) rfl
theorem q1963 : (Jvm.Cond.code ({ cls := "HalfFairModel", name := "cry", desc := "(II)I" } : Jvm.MethodName) prog_20_method_110_code (7 : Nat) (Option.some Jvm.ClassFile.FieldType.int)) ∈ lw_all := lw_g (lw_at lw_m8 131 rfl) rfl
theorem q1964 : (Jvm.Cond.methodLink "HalfFairModel" (460 : Nat) ({ cls := "HalfFairModel", name := "criedFor", desc := "(II)I" } : Jvm.MethodName)) ∈ lw_all := lw_g (lw_at lw_m8 132 rfl) rfl
theorem q1965 : (Jvm.Cond.privateMethod ({ cls := "HalfFairModel", name := "criedFor", desc := "(II)I" } : Jvm.MethodName)) ∈ lw_tbl := lw_at lw_m8 133 rfl
theorem q1966 : (Jvm.Cond.instanceMethod ({ cls := "HalfFairModel", name := "criedFor", desc := "(II)I" } : Jvm.MethodName)) ∈ lw_all := lw_g (lw_at lw_m8 134 rfl) rfl
theorem q1967 : (Jvm.Cond.code ({ cls := "HalfFairModel", name := "criedFor", desc := "(II)I" } : Jvm.MethodName) prog_20_method_109_code (8 : Nat) (Option.some Jvm.ClassFile.FieldType.int)) ∈ lw_all := lw_g (lw_at lw_m8 135 rfl) rfl
theorem q1968 : (Jvm.Cond.methodLink "HalfFairModel" (457 : Nat) ({ cls := "HalfFairModel", name := "isOwnShape", desc := "(III)Z" } : Jvm.MethodName)) ∈ lw_all := lw_g (lw_at lw_m8 136 rfl) rfl
theorem q1969 : (Jvm.Cond.privateMethod ({ cls := "HalfFairModel", name := "isOwnShape", desc := "(III)Z" } : Jvm.MethodName)) ∈ lw_tbl := lw_at lw_m8 137 rfl
theorem q1970 : (Jvm.Cond.instanceMethod ({ cls := "HalfFairModel", name := "isOwnShape", desc := "(III)Z" } : Jvm.MethodName)) ∈ lw_all := lw_g (lw_at lw_m8 138 rfl) rfl
theorem q1971 : (Jvm.Cond.code ({ cls := "HalfFairModel", name := "isOwnShape", desc := "(III)Z" } : Jvm.MethodName) prog_20_method_108_code (4 : Nat) (Option.some Jvm.ClassFile.FieldType.boolean)) ∈ lw_all := lw_g (lw_at lw_m8 139 rfl) rfl
theorem q1973 : (Jvm.Cond.instanceMethod ({ cls := "HalfFairModel", name := "bring", desc := "(III)I" } : Jvm.MethodName)) ∈ lw_all := lw_g (lw_at lw_m8 141 rfl) rfl
theorem q1974 : (Jvm.Cond.selects "HalfFairModel" ({ cls := "HalfFairModel", name := "bring", desc := "(III)I" } : Jvm.MethodName) ({ cls := "HalfFairModel", name := "bring", desc := "(III)I" } : Jvm.MethodName)) ∈ lw_all := lw_g (lw_at lw_m8 142 rfl) rfl
theorem q1975 : (Jvm.Cond.code ({ cls := "HalfFairModel", name := "bring", desc := "(III)I" } : Jvm.MethodName) prog_20_method_115_code (9 : Nat) (Option.some Jvm.ClassFile.FieldType.int)) ∈ lw_all := lw_g (lw_at lw_m8 143 rfl) rfl
theorem q1976 : (Jvm.Cond.methodLink "HalfFairModel" (466 : Nat) ({ cls := "HalfFairModel", name := "hoursAhead", desc := "()I" } : Jvm.MethodName)) ∈ lw_all := lw_g (lw_at lw_m8 144 rfl) rfl
theorem q1977 : (Jvm.Cond.privateMethod ({ cls := "HalfFairModel", name := "hoursAhead", desc := "()I" } : Jvm.MethodName)) ∈ lw_tbl := lw_at lw_m8 145 rfl
theorem q1978 : (Jvm.Cond.instanceMethod ({ cls := "HalfFairModel", name := "hoursAhead", desc := "()I" } : Jvm.MethodName)) ∈ lw_all := lw_g (lw_at lw_m8 146 rfl) rfl
theorem q1979 : (Jvm.Cond.code ({ cls := "HalfFairModel", name := "hoursAhead", desc := "()I" } : Jvm.MethodName) prog_20_method_113_code (2 : Nat) (Option.some Jvm.ClassFile.FieldType.int)) ∈ lw_all := lw_g (lw_at lw_m8 147 rfl) rfl
theorem q1980 : (Jvm.Cond.methodLink "HalfFairModel" (469 : Nat) ({ cls := "HalfFairModel", name := "keeps", desc := "()V" } : Jvm.MethodName)) ∈ lw_all := lw_g (lw_at lw_m8 148 rfl) rfl
theorem q1981 : (Jvm.Cond.privateMethod ({ cls := "HalfFairModel", name := "keeps", desc := "()V" } : Jvm.MethodName)) ∈ lw_tbl := lw_at lw_m8 149 rfl
theorem q1982 : (Jvm.Cond.instanceMethod ({ cls := "HalfFairModel", name := "keeps", desc := "()V" } : Jvm.MethodName)) ∈ lw_all := lw_g (lw_at lw_m8 150 rfl) rfl
theorem q1983 : (Jvm.Cond.code ({ cls := "HalfFairModel", name := "keeps", desc := "()V" } : Jvm.MethodName) prog_20_method_111_code (2 : Nat) (Option.none : Option Jvm.ClassFile.FieldType)) ∈ lw_all := lw_g (lw_at lw_m8 151 rfl) rfl
theorem q1984 : (Jvm.Cond.methodLink "HalfFairModel" (472 : Nat) ({ cls := "HalfFairModel", name := "soldFrom", desc := "(IIII)I" } : Jvm.MethodName)) ∈ lw_all := lw_g (lw_at lw_m8 152 rfl) rfl
theorem q1985 : (Jvm.Cond.privateMethod ({ cls := "HalfFairModel", name := "soldFrom", desc := "(IIII)I" } : Jvm.MethodName)) ∈ lw_tbl := lw_at lw_m8 153 rfl
theorem q1986 : (Jvm.Cond.instanceMethod ({ cls := "HalfFairModel", name := "soldFrom", desc := "(IIII)I" } : Jvm.MethodName)) ∈ lw_all := lw_g (lw_at lw_m8 154 rfl) rfl
theorem q1987 : (Jvm.Cond.code ({ cls := "HalfFairModel", name := "soldFrom", desc := "(IIII)I" } : Jvm.MethodName) prog_20_method_114_code (8 : Nat) (Option.some Jvm.ClassFile.FieldType.int)) ∈ lw_all := lw_g (lw_at lw_m8 155 rfl) rfl
theorem q1988 : (Jvm.Cond.methodLink "HalfFairModel" (463 : Nat) ({ cls := "HalfFairModel", name := "putsBack", desc := "()V" } : Jvm.MethodName)) ∈ lw_all := lw_g (lw_at lw_m8 156 rfl) rfl
theorem q1989 : (Jvm.Cond.privateMethod ({ cls := "HalfFairModel", name := "putsBack", desc := "()V" } : Jvm.MethodName)) ∈ lw_tbl := lw_at lw_m8 157 rfl
theorem q1990 : (Jvm.Cond.instanceMethod ({ cls := "HalfFairModel", name := "putsBack", desc := "()V" } : Jvm.MethodName)) ∈ lw_all := lw_g (lw_at lw_m8 158 rfl) rfl
theorem q1991 : (Jvm.Cond.code ({ cls := "HalfFairModel", name := "putsBack", desc := "()V" } : Jvm.MethodName) prog_20_method_112_code (2 : Nat) (Option.none : Option Jvm.ClassFile.FieldType)) ∈ lw_all := lw_g (lw_at lw_m8 159 rfl) rfl
theorem q1993 : (Jvm.Cond.instanceMethod ({ cls := "HalfFairModel", name := "trial", desc := "(IIZ)I" } : Jvm.MethodName)) ∈ lw_all := lw_g (lw_at lw_m8 161 rfl) rfl
theorem q1994 : (Jvm.Cond.selects "HalfFairModel" ({ cls := "HalfFairModel", name := "trial", desc := "(IIZ)I" } : Jvm.MethodName) ({ cls := "HalfFairModel", name := "trial", desc := "(IIZ)I" } : Jvm.MethodName)) ∈ lw_all := lw_g (lw_at lw_m8 162 rfl) rfl
theorem q1995 : (Jvm.Cond.code ({ cls := "HalfFairModel", name := "trial", desc := "(IIZ)I" } : Jvm.MethodName) prog_20_method_116_code (5 : Nat) (Option.some Jvm.ClassFile.FieldType.int)) ∈ lw_all := lw_g (lw_at lw_m8 163 rfl) rfl
theorem q1997 : (Jvm.Cond.instanceMethod ({ cls := "HalfFairModel", name := "forgers", desc := "(I)I" } : Jvm.MethodName)) ∈ lw_all := lw_g (lw_at lw_m8 165 rfl) rfl
theorem q1998 : (Jvm.Cond.selects "HalfFairModel" ({ cls := "HalfFairModel", name := "forgers", desc := "(I)I" } : Jvm.MethodName) ({ cls := "HalfFairModel", name := "forgers", desc := "(I)I" } : Jvm.MethodName)) ∈ lw_all := lw_g (lw_at lw_m8 166 rfl) rfl
theorem q1999 : (Jvm.Cond.code ({ cls := "HalfFairModel", name := "forgers", desc := "(I)I" } : Jvm.MethodName) prog_20_method_118_code (5 : Nat) (Option.some Jvm.ClassFile.FieldType.int)) ∈ lw_all := lw_g (lw_at lw_m8 167 rfl) rfl
theorem q2000 : (Jvm.Cond.methodLink "HalfFairModel" (476 : Nat) ({ cls := "HalfFairModel", name := "isTried", desc := "(I)Z" } : Jvm.MethodName)) ∈ lw_all := lw_g (lw_at lw_m8 168 rfl) rfl
theorem q2001 : (Jvm.Cond.privateMethod ({ cls := "HalfFairModel", name := "isTried", desc := "(I)Z" } : Jvm.MethodName)) ∈ lw_tbl := lw_at lw_m8 169 rfl
theorem q2002 : (Jvm.Cond.instanceMethod ({ cls := "HalfFairModel", name := "isTried", desc := "(I)Z" } : Jvm.MethodName)) ∈ lw_all := lw_g (lw_at lw_m8 170 rfl) rfl
theorem q2003 : (Jvm.Cond.code ({ cls := "HalfFairModel", name := "isTried", desc := "(I)Z" } : Jvm.MethodName) prog_20_method_117_code (6 : Nat) (Option.some Jvm.ClassFile.FieldType.boolean)) ∈ lw_all := lw_g (lw_at lw_m8 171 rfl) rfl
theorem q2005 : (Jvm.Cond.instanceMethod ({ cls := "HalfFairModel", name := "seed", desc := "(I)I" } : Jvm.MethodName)) ∈ lw_all := lw_g (lw_at lw_m8 173 rfl) rfl
theorem q2006 : (Jvm.Cond.selects "HalfFairModel" ({ cls := "HalfFairModel", name := "seed", desc := "(I)I" } : Jvm.MethodName) ({ cls := "HalfFairModel", name := "seed", desc := "(I)I" } : Jvm.MethodName)) ∈ lw_all := lw_g (lw_at lw_m8 174 rfl) rfl
theorem q2007 : (Jvm.Cond.code ({ cls := "HalfFairModel", name := "seed", desc := "(I)I" } : Jvm.MethodName) prog_20_method_119_code (3 : Nat) (Option.some Jvm.ClassFile.FieldType.int)) ∈ lw_all := lw_g (lw_at lw_m8 175 rfl) rfl
theorem q2009 : (Jvm.Cond.instanceMethod ({ cls := "HalfFairModel", name := "fairs", desc := "(IIII)I" } : Jvm.MethodName)) ∈ lw_all := lw_g (lw_at lw_m8 177 rfl) rfl
theorem q2010 : (Jvm.Cond.selects "HalfFairModel" ({ cls := "HalfFairModel", name := "fairs", desc := "(IIII)I" } : Jvm.MethodName) ({ cls := "HalfFairModel", name := "fairs", desc := "(IIII)I" } : Jvm.MethodName)) ∈ lw_all := lw_g (lw_at lw_m8 178 rfl) rfl
theorem q2011 : (Jvm.Cond.code ({ cls := "HalfFairModel", name := "fairs", desc := "(IIII)I" } : Jvm.MethodName) prog_20_method_122_code (9 : Nat) (Option.some Jvm.ClassFile.FieldType.int)) ∈ lw_all := lw_g (lw_at lw_m8 179 rfl) rfl
theorem q2012 : (Jvm.Cond.constantLong "HalfFairModel" (497 : Nat) (10 : Int64)) ∈ lw_all := lw_g (lw_at lw_m8 180 rfl) rfl
theorem q2013 : (Jvm.Cond.constantLong "HalfFairModel" (499 : Nat) (100 : Int64)) ∈ lw_all := lw_g (lw_at lw_m8 181 rfl) rfl
theorem q2014 : (Jvm.Cond.methodLink "HalfFairModel" (501 : Nat) ({ cls := "HalfFairModel", name := "drawsHour", desc := "(II)V" } : Jvm.MethodName)) ∈ lw_all := lw_g (lw_at lw_m8 182 rfl) rfl
theorem q2015 : (Jvm.Cond.privateMethod ({ cls := "HalfFairModel", name := "drawsHour", desc := "(II)V" } : Jvm.MethodName)) ∈ lw_tbl := lw_at lw_m8 183 rfl
theorem q2016 : (Jvm.Cond.instanceMethod ({ cls := "HalfFairModel", name := "drawsHour", desc := "(II)V" } : Jvm.MethodName)) ∈ lw_all := lw_g (lw_at lw_m8 184 rfl) rfl
theorem q2017 : (Jvm.Cond.code ({ cls := "HalfFairModel", name := "drawsHour", desc := "(II)V" } : Jvm.MethodName) prog_20_method_121_code (6 : Nat) (Option.none : Option Jvm.ClassFile.FieldType)) ∈ lw_all := lw_g (lw_at lw_m8 185 rfl) rfl
theorem q2018 : (Jvm.Cond.methodLink "HalfFairModel" (494 : Nat) ({ cls := "HalfFairModel", name := "draw", desc := "(I)I" } : Jvm.MethodName)) ∈ lw_all := lw_g (lw_at lw_m8 186 rfl) rfl
theorem q2019 : (Jvm.Cond.privateMethod ({ cls := "HalfFairModel", name := "draw", desc := "(I)I" } : Jvm.MethodName)) ∈ lw_tbl := lw_at lw_m8 187 rfl
theorem q2020 : (Jvm.Cond.instanceMethod ({ cls := "HalfFairModel", name := "draw", desc := "(I)I" } : Jvm.MethodName)) ∈ lw_all := lw_g (lw_at lw_m8 188 rfl) rfl
theorem q2021 : (Jvm.Cond.code ({ cls := "HalfFairModel", name := "draw", desc := "(I)I" } : Jvm.MethodName) prog_20_method_120_code (2 : Nat) (Option.some Jvm.ClassFile.FieldType.int)) ∈ lw_all := lw_g (lw_at lw_m8 189 rfl) rfl
theorem q2022 : (Jvm.Cond.constantLong "HalfFairModel" (486 : Nat) (1103515245 : Int64)) ∈ lw_all := lw_g (lw_at lw_m8 190 rfl) rfl
theorem q2023 : (Jvm.Cond.constantLong "HalfFairModel" (488 : Nat) (12345 : Int64)) ∈ lw_all := lw_g (lw_at lw_m8 191 rfl) rfl
theorem q2024 : (Jvm.Cond.constantLong "HalfFairModel" (490 : Nat) (2147483648 : Int64)) ∈ lw_all := lw_g (lw_at lw_m8 192 rfl) rfl
theorem q2025 : (Jvm.Cond.constantLong "HalfFairModel" (492 : Nat) (65536 : Int64)) ∈ lw_all := lw_g (lw_at lw_m8 193 rfl) rfl
theorem q2027 : (Jvm.Cond.instanceMethod ({ cls := "HalfFairModel", name := "count", desc := "(I)I" } : Jvm.MethodName)) ∈ lw_all := lw_g (lw_at lw_m8 195 rfl) rfl
theorem q2028 : (Jvm.Cond.selects "HalfFairModel" ({ cls := "HalfFairModel", name := "count", desc := "(I)I" } : Jvm.MethodName) ({ cls := "HalfFairModel", name := "count", desc := "(I)I" } : Jvm.MethodName)) ∈ lw_all := lw_g (lw_at lw_m8 196 rfl) rfl
theorem q2029 : (Jvm.Cond.code ({ cls := "HalfFairModel", name := "count", desc := "(I)I" } : Jvm.MethodName) prog_20_method_123_code (2 : Nat) (Option.some Jvm.ClassFile.FieldType.int)) ∈ lw_all := lw_g (lw_at lw_m8 197 rfl) rfl
theorem q2031 : (Jvm.Cond.instanceMethod ({ cls := "HalfFairModel", name := "image", desc := "(I)I" } : Jvm.MethodName)) ∈ lw_all := lw_g (lw_at lw_m8 199 rfl) rfl
theorem q2032 : (Jvm.Cond.selects "HalfFairModel" ({ cls := "HalfFairModel", name := "image", desc := "(I)I" } : Jvm.MethodName) ({ cls := "HalfFairModel", name := "image", desc := "(I)I" } : Jvm.MethodName)) ∈ lw_all := lw_g (lw_at lw_m8 200 rfl) rfl
theorem q2033 : (Jvm.Cond.code ({ cls := "HalfFairModel", name := "image", desc := "(I)I" } : Jvm.MethodName) prog_20_method_124_code (3 : Nat) (Option.some Jvm.ClassFile.FieldType.int)) ∈ lw_all := lw_g (lw_at lw_m8 201 rfl) rfl
theorem q2034 : (Jvm.Cond.constantLong "HalfFairModel" (504 : Nat) (3 : Int64)) ∈ lw_all := lw_g (lw_at lw_m8 202 rfl) rfl
theorem q2036 : (Jvm.Cond.instanceMethod ({ cls := "HalfFairModel", name := "back", desc := "(I)I" } : Jvm.MethodName)) ∈ lw_all := lw_g (lw_at lw_m8 204 rfl) rfl
theorem q2037 : (Jvm.Cond.selects "HalfFairModel" ({ cls := "HalfFairModel", name := "back", desc := "(I)I" } : Jvm.MethodName) ({ cls := "HalfFairModel", name := "back", desc := "(I)I" } : Jvm.MethodName)) ∈ lw_all := lw_g (lw_at lw_m8 205 rfl) rfl
theorem q2038 : (Jvm.Cond.code ({ cls := "HalfFairModel", name := "back", desc := "(I)I" } : Jvm.MethodName) prog_20_method_125_code (3 : Nat) (Option.some Jvm.ClassFile.FieldType.int)) ∈ lw_all := lw_g (lw_at lw_m8 206 rfl) rfl
theorem q2048 : (Jvm.Cond.castable "HalfFairModel" "java/lang/Object") ∈ lw_tbl := lw_at lw_m8 216 rfl
theorem in_X4 : ∀ w ∈ wsX40, w ∈ lw_all := lw_in wsX40 [1437, 1439, 1441, 1443, 1445, 1447, 1449, 1451, 1453, 1455, 1457, 1459, 1461, 1463, 1465, 1467, 1469, 1471, 1473, 1475, 1477, 1479, 1481, 1483, 1485, 1487, 1489, 1491, 1493, 1495, 1497, 1499, 1501, 1503, 1505, 1507, 1509] (by decide +kernel) (by decide +kernel)

