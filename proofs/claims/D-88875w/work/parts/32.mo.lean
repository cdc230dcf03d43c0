/-! the model's object: its arrays lie behind it -/
def mlayL : List (Nat × Nat × Nat × Nat) := [(1402, 1, 103, 13), (1403, 2, 103, 78), (1404, 3, 103, 78), (1405, 4, 103, 78), (1406, 5, 100, 78), (1407, 6, 103, 468), (1408, 7, 103, 468), (1409, 8, 103, 468), (1410, 9, 103, 12), (1411, 10, 103, 12), (1413, 11, 103, 200), (1414, 12, 103, 200), (1415, 13, 101, 120), (1420, 14, 103, 15), (1421, 15, 103, 15), (1422, 16, 100, 6), (1423, 17, 100, 6), (1426, 18, 103, 40), (1427, 19, 103, 40), (1428, 20, 103, 40), (1429, 21, 103, 40), (1430, 22, 103, 40), (1431, 23, 103, 6), (1432, 24, 103, 6), (1433, 25, 100, 6), (1434, 26, 103, 36), (1436, 27, 104, 36), (1438, 28, 104, 7), (1439, 29, 103, 6), (1440, 30, 104, 4096), (1441, 31, 103, 4096), (1443, 32, 103, 100), (1444, 33, 103, 6), (1445, 34, 103, 6), (1453, 35, 103, 8), (1454, 36, 103, 8), (1455, 37, 103, 8), (1457, 38, 103, 6), (1458, 39, 103, 6), (1459, 40, 103, 6), (1460, 41, 103, 8), (1466, 42, 103, 6), (1470, 43, 103, 600), (1472, 44, 103, 4), (1473, 45, 103, 4), (1475, 46, 103, 6), (1476, 47, 103, 6), (1477, 48, 103, 6), (1478, 49, 103, 800), (1480, 50, 103, 6), (1481, 51, 103, 6), (1482, 52, 103, 6), (1484, 53, 103, 6), (1485, 54, 103, 6), (1486, 55, 103, 7), (1487, 56, 103, 7), (1489, 57, 103, 24), (1490, 58, 103, 6), (1491, 59, 103, 6), (1492, 60, 104, 360), (1493, 61, 104, 60)]
def MO (h : Hp) (o : Nat) : Prop := hK h o = (5, 0) ∧ ∀ e ∈ mlayL, hFR h e.1 o = some (o + e.2.1) ∧ hK h (o + e.2.1) = (e.2.2.1, e.2.2.2)
theorem MO_k {h : Hp} {o : Nat} (m : MO h o) : (hK h o).1 = 5 := by rw [m.1]
theorem MO_f1402 {h : Hp} {o : Nat} (m : MO h o) : hFR h 1402 o = some (o + 1) := (m.2 (1402, 1, 103, 13) (by decide)).1
theorem MO_k1 {h : Hp} {o : Nat} (m : MO h o) : hK h (o + 1) = (103, 13) := (m.2 (1402, 1, 103, 13) (by decide)).2
theorem MO_f1403 {h : Hp} {o : Nat} (m : MO h o) : hFR h 1403 o = some (o + 2) := (m.2 (1403, 2, 103, 78) (by decide)).1
theorem MO_k2 {h : Hp} {o : Nat} (m : MO h o) : hK h (o + 2) = (103, 78) := (m.2 (1403, 2, 103, 78) (by decide)).2
theorem MO_f1404 {h : Hp} {o : Nat} (m : MO h o) : hFR h 1404 o = some (o + 3) := (m.2 (1404, 3, 103, 78) (by decide)).1
theorem MO_k3 {h : Hp} {o : Nat} (m : MO h o) : hK h (o + 3) = (103, 78) := (m.2 (1404, 3, 103, 78) (by decide)).2
theorem MO_f1405 {h : Hp} {o : Nat} (m : MO h o) : hFR h 1405 o = some (o + 4) := (m.2 (1405, 4, 103, 78) (by decide)).1
theorem MO_k4 {h : Hp} {o : Nat} (m : MO h o) : hK h (o + 4) = (103, 78) := (m.2 (1405, 4, 103, 78) (by decide)).2
theorem MO_f1406 {h : Hp} {o : Nat} (m : MO h o) : hFR h 1406 o = some (o + 5) := (m.2 (1406, 5, 100, 78) (by decide)).1
theorem MO_k5 {h : Hp} {o : Nat} (m : MO h o) : hK h (o + 5) = (100, 78) := (m.2 (1406, 5, 100, 78) (by decide)).2
theorem MO_f1407 {h : Hp} {o : Nat} (m : MO h o) : hFR h 1407 o = some (o + 6) := (m.2 (1407, 6, 103, 468) (by decide)).1
theorem MO_k6 {h : Hp} {o : Nat} (m : MO h o) : hK h (o + 6) = (103, 468) := (m.2 (1407, 6, 103, 468) (by decide)).2
theorem MO_f1408 {h : Hp} {o : Nat} (m : MO h o) : hFR h 1408 o = some (o + 7) := (m.2 (1408, 7, 103, 468) (by decide)).1
theorem MO_k7 {h : Hp} {o : Nat} (m : MO h o) : hK h (o + 7) = (103, 468) := (m.2 (1408, 7, 103, 468) (by decide)).2
theorem MO_f1409 {h : Hp} {o : Nat} (m : MO h o) : hFR h 1409 o = some (o + 8) := (m.2 (1409, 8, 103, 468) (by decide)).1
theorem MO_k8 {h : Hp} {o : Nat} (m : MO h o) : hK h (o + 8) = (103, 468) := (m.2 (1409, 8, 103, 468) (by decide)).2
theorem MO_f1410 {h : Hp} {o : Nat} (m : MO h o) : hFR h 1410 o = some (o + 9) := (m.2 (1410, 9, 103, 12) (by decide)).1
theorem MO_k9 {h : Hp} {o : Nat} (m : MO h o) : hK h (o + 9) = (103, 12) := (m.2 (1410, 9, 103, 12) (by decide)).2
theorem MO_f1411 {h : Hp} {o : Nat} (m : MO h o) : hFR h 1411 o = some (o + 10) := (m.2 (1411, 10, 103, 12) (by decide)).1
theorem MO_k10 {h : Hp} {o : Nat} (m : MO h o) : hK h (o + 10) = (103, 12) := (m.2 (1411, 10, 103, 12) (by decide)).2
theorem MO_f1413 {h : Hp} {o : Nat} (m : MO h o) : hFR h 1413 o = some (o + 11) := (m.2 (1413, 11, 103, 200) (by decide)).1
theorem MO_k11 {h : Hp} {o : Nat} (m : MO h o) : hK h (o + 11) = (103, 200) := (m.2 (1413, 11, 103, 200) (by decide)).2
theorem MO_f1414 {h : Hp} {o : Nat} (m : MO h o) : hFR h 1414 o = some (o + 12) := (m.2 (1414, 12, 103, 200) (by decide)).1
theorem MO_k12 {h : Hp} {o : Nat} (m : MO h o) : hK h (o + 12) = (103, 200) := (m.2 (1414, 12, 103, 200) (by decide)).2
theorem MO_f1415 {h : Hp} {o : Nat} (m : MO h o) : hFR h 1415 o = some (o + 13) := (m.2 (1415, 13, 101, 120) (by decide)).1
theorem MO_k13 {h : Hp} {o : Nat} (m : MO h o) : hK h (o + 13) = (101, 120) := (m.2 (1415, 13, 101, 120) (by decide)).2
theorem MO_f1420 {h : Hp} {o : Nat} (m : MO h o) : hFR h 1420 o = some (o + 14) := (m.2 (1420, 14, 103, 15) (by decide)).1
theorem MO_k14 {h : Hp} {o : Nat} (m : MO h o) : hK h (o + 14) = (103, 15) := (m.2 (1420, 14, 103, 15) (by decide)).2
theorem MO_f1421 {h : Hp} {o : Nat} (m : MO h o) : hFR h 1421 o = some (o + 15) := (m.2 (1421, 15, 103, 15) (by decide)).1
theorem MO_k15 {h : Hp} {o : Nat} (m : MO h o) : hK h (o + 15) = (103, 15) := (m.2 (1421, 15, 103, 15) (by decide)).2
theorem MO_f1422 {h : Hp} {o : Nat} (m : MO h o) : hFR h 1422 o = some (o + 16) := (m.2 (1422, 16, 100, 6) (by decide)).1
theorem MO_k16 {h : Hp} {o : Nat} (m : MO h o) : hK h (o + 16) = (100, 6) := (m.2 (1422, 16, 100, 6) (by decide)).2
theorem MO_f1423 {h : Hp} {o : Nat} (m : MO h o) : hFR h 1423 o = some (o + 17) := (m.2 (1423, 17, 100, 6) (by decide)).1
theorem MO_k17 {h : Hp} {o : Nat} (m : MO h o) : hK h (o + 17) = (100, 6) := (m.2 (1423, 17, 100, 6) (by decide)).2
theorem MO_f1426 {h : Hp} {o : Nat} (m : MO h o) : hFR h 1426 o = some (o + 18) := (m.2 (1426, 18, 103, 40) (by decide)).1
theorem MO_k18 {h : Hp} {o : Nat} (m : MO h o) : hK h (o + 18) = (103, 40) := (m.2 (1426, 18, 103, 40) (by decide)).2
theorem MO_f1427 {h : Hp} {o : Nat} (m : MO h o) : hFR h 1427 o = some (o + 19) := (m.2 (1427, 19, 103, 40) (by decide)).1
theorem MO_k19 {h : Hp} {o : Nat} (m : MO h o) : hK h (o + 19) = (103, 40) := (m.2 (1427, 19, 103, 40) (by decide)).2
theorem MO_f1428 {h : Hp} {o : Nat} (m : MO h o) : hFR h 1428 o = some (o + 20) := (m.2 (1428, 20, 103, 40) (by decide)).1
theorem MO_k20 {h : Hp} {o : Nat} (m : MO h o) : hK h (o + 20) = (103, 40) := (m.2 (1428, 20, 103, 40) (by decide)).2
theorem MO_f1429 {h : Hp} {o : Nat} (m : MO h o) : hFR h 1429 o = some (o + 21) := (m.2 (1429, 21, 103, 40) (by decide)).1
theorem MO_k21 {h : Hp} {o : Nat} (m : MO h o) : hK h (o + 21) = (103, 40) := (m.2 (1429, 21, 103, 40) (by decide)).2
theorem MO_f1430 {h : Hp} {o : Nat} (m : MO h o) : hFR h 1430 o = some (o + 22) := (m.2 (1430, 22, 103, 40) (by decide)).1
theorem MO_k22 {h : Hp} {o : Nat} (m : MO h o) : hK h (o + 22) = (103, 40) := (m.2 (1430, 22, 103, 40) (by decide)).2
theorem MO_f1431 {h : Hp} {o : Nat} (m : MO h o) : hFR h 1431 o = some (o + 23) := (m.2 (1431, 23, 103, 6) (by decide)).1
theorem MO_k23 {h : Hp} {o : Nat} (m : MO h o) : hK h (o + 23) = (103, 6) := (m.2 (1431, 23, 103, 6) (by decide)).2
theorem MO_f1432 {h : Hp} {o : Nat} (m : MO h o) : hFR h 1432 o = some (o + 24) := (m.2 (1432, 24, 103, 6) (by decide)).1
theorem MO_k24 {h : Hp} {o : Nat} (m : MO h o) : hK h (o + 24) = (103, 6) := (m.2 (1432, 24, 103, 6) (by decide)).2
theorem MO_f1433 {h : Hp} {o : Nat} (m : MO h o) : hFR h 1433 o = some (o + 25) := (m.2 (1433, 25, 100, 6) (by decide)).1
theorem MO_k25 {h : Hp} {o : Nat} (m : MO h o) : hK h (o + 25) = (100, 6) := (m.2 (1433, 25, 100, 6) (by decide)).2
theorem MO_f1434 {h : Hp} {o : Nat} (m : MO h o) : hFR h 1434 o = some (o + 26) := (m.2 (1434, 26, 103, 36) (by decide)).1
theorem MO_k26 {h : Hp} {o : Nat} (m : MO h o) : hK h (o + 26) = (103, 36) := (m.2 (1434, 26, 103, 36) (by decide)).2
theorem MO_f1436 {h : Hp} {o : Nat} (m : MO h o) : hFR h 1436 o = some (o + 27) := (m.2 (1436, 27, 104, 36) (by decide)).1
theorem MO_k27 {h : Hp} {o : Nat} (m : MO h o) : hK h (o + 27) = (104, 36) := (m.2 (1436, 27, 104, 36) (by decide)).2
theorem MO_f1438 {h : Hp} {o : Nat} (m : MO h o) : hFR h 1438 o = some (o + 28) := (m.2 (1438, 28, 104, 7) (by decide)).1
theorem MO_k28 {h : Hp} {o : Nat} (m : MO h o) : hK h (o + 28) = (104, 7) := (m.2 (1438, 28, 104, 7) (by decide)).2
theorem MO_f1439 {h : Hp} {o : Nat} (m : MO h o) : hFR h 1439 o = some (o + 29) := (m.2 (1439, 29, 103, 6) (by decide)).1
theorem MO_k29 {h : Hp} {o : Nat} (m : MO h o) : hK h (o + 29) = (103, 6) := (m.2 (1439, 29, 103, 6) (by decide)).2
theorem MO_f1440 {h : Hp} {o : Nat} (m : MO h o) : hFR h 1440 o = some (o + 30) := (m.2 (1440, 30, 104, 4096) (by decide)).1
theorem MO_k30 {h : Hp} {o : Nat} (m : MO h o) : hK h (o + 30) = (104, 4096) := (m.2 (1440, 30, 104, 4096) (by decide)).2
theorem MO_f1441 {h : Hp} {o : Nat} (m : MO h o) : hFR h 1441 o = some (o + 31) := (m.2 (1441, 31, 103, 4096) (by decide)).1
theorem MO_k31 {h : Hp} {o : Nat} (m : MO h o) : hK h (o + 31) = (103, 4096) := (m.2 (1441, 31, 103, 4096) (by decide)).2
theorem MO_f1443 {h : Hp} {o : Nat} (m : MO h o) : hFR h 1443 o = some (o + 32) := (m.2 (1443, 32, 103, 100) (by decide)).1
theorem MO_k32 {h : Hp} {o : Nat} (m : MO h o) : hK h (o + 32) = (103, 100) := (m.2 (1443, 32, 103, 100) (by decide)).2
theorem MO_f1444 {h : Hp} {o : Nat} (m : MO h o) : hFR h 1444 o = some (o + 33) := (m.2 (1444, 33, 103, 6) (by decide)).1
theorem MO_k33 {h : Hp} {o : Nat} (m : MO h o) : hK h (o + 33) = (103, 6) := (m.2 (1444, 33, 103, 6) (by decide)).2
theorem MO_f1445 {h : Hp} {o : Nat} (m : MO h o) : hFR h 1445 o = some (o + 34) := (m.2 (1445, 34, 103, 6) (by decide)).1
theorem MO_k34 {h : Hp} {o : Nat} (m : MO h o) : hK h (o + 34) = (103, 6) := (m.2 (1445, 34, 103, 6) (by decide)).2
theorem MO_f1453 {h : Hp} {o : Nat} (m : MO h o) : hFR h 1453 o = some (o + 35) := (m.2 (1453, 35, 103, 8) (by decide)).1
theorem MO_k35 {h : Hp} {o : Nat} (m : MO h o) : hK h (o + 35) = (103, 8) := (m.2 (1453, 35, 103, 8) (by decide)).2
theorem MO_f1454 {h : Hp} {o : Nat} (m : MO h o) : hFR h 1454 o = some (o + 36) := (m.2 (1454, 36, 103, 8) (by decide)).1
theorem MO_k36 {h : Hp} {o : Nat} (m : MO h o) : hK h (o + 36) = (103, 8) := (m.2 (1454, 36, 103, 8) (by decide)).2
theorem MO_f1455 {h : Hp} {o : Nat} (m : MO h o) : hFR h 1455 o = some (o + 37) := (m.2 (1455, 37, 103, 8) (by decide)).1
theorem MO_k37 {h : Hp} {o : Nat} (m : MO h o) : hK h (o + 37) = (103, 8) := (m.2 (1455, 37, 103, 8) (by decide)).2
theorem MO_f1457 {h : Hp} {o : Nat} (m : MO h o) : hFR h 1457 o = some (o + 38) := (m.2 (1457, 38, 103, 6) (by decide)).1
theorem MO_k38 {h : Hp} {o : Nat} (m : MO h o) : hK h (o + 38) = (103, 6) := (m.2 (1457, 38, 103, 6) (by decide)).2
theorem MO_f1458 {h : Hp} {o : Nat} (m : MO h o) : hFR h 1458 o = some (o + 39) := (m.2 (1458, 39, 103, 6) (by decide)).1
theorem MO_k39 {h : Hp} {o : Nat} (m : MO h o) : hK h (o + 39) = (103, 6) := (m.2 (1458, 39, 103, 6) (by decide)).2
theorem MO_f1459 {h : Hp} {o : Nat} (m : MO h o) : hFR h 1459 o = some (o + 40) := (m.2 (1459, 40, 103, 6) (by decide)).1
theorem MO_k40 {h : Hp} {o : Nat} (m : MO h o) : hK h (o + 40) = (103, 6) := (m.2 (1459, 40, 103, 6) (by decide)).2
theorem MO_f1460 {h : Hp} {o : Nat} (m : MO h o) : hFR h 1460 o = some (o + 41) := (m.2 (1460, 41, 103, 8) (by decide)).1
theorem MO_k41 {h : Hp} {o : Nat} (m : MO h o) : hK h (o + 41) = (103, 8) := (m.2 (1460, 41, 103, 8) (by decide)).2
theorem MO_f1466 {h : Hp} {o : Nat} (m : MO h o) : hFR h 1466 o = some (o + 42) := (m.2 (1466, 42, 103, 6) (by decide)).1
theorem MO_k42 {h : Hp} {o : Nat} (m : MO h o) : hK h (o + 42) = (103, 6) := (m.2 (1466, 42, 103, 6) (by decide)).2
theorem MO_f1470 {h : Hp} {o : Nat} (m : MO h o) : hFR h 1470 o = some (o + 43) := (m.2 (1470, 43, 103, 600) (by decide)).1
theorem MO_k43 {h : Hp} {o : Nat} (m : MO h o) : hK h (o + 43) = (103, 600) := (m.2 (1470, 43, 103, 600) (by decide)).2
theorem MO_f1472 {h : Hp} {o : Nat} (m : MO h o) : hFR h 1472 o = some (o + 44) := (m.2 (1472, 44, 103, 4) (by decide)).1
theorem MO_k44 {h : Hp} {o : Nat} (m : MO h o) : hK h (o + 44) = (103, 4) := (m.2 (1472, 44, 103, 4) (by decide)).2
theorem MO_f1473 {h : Hp} {o : Nat} (m : MO h o) : hFR h 1473 o = some (o + 45) := (m.2 (1473, 45, 103, 4) (by decide)).1
theorem MO_k45 {h : Hp} {o : Nat} (m : MO h o) : hK h (o + 45) = (103, 4) := (m.2 (1473, 45, 103, 4) (by decide)).2
theorem MO_f1475 {h : Hp} {o : Nat} (m : MO h o) : hFR h 1475 o = some (o + 46) := (m.2 (1475, 46, 103, 6) (by decide)).1
theorem MO_k46 {h : Hp} {o : Nat} (m : MO h o) : hK h (o + 46) = (103, 6) := (m.2 (1475, 46, 103, 6) (by decide)).2
theorem MO_f1476 {h : Hp} {o : Nat} (m : MO h o) : hFR h 1476 o = some (o + 47) := (m.2 (1476, 47, 103, 6) (by decide)).1
theorem MO_k47 {h : Hp} {o : Nat} (m : MO h o) : hK h (o + 47) = (103, 6) := (m.2 (1476, 47, 103, 6) (by decide)).2
theorem MO_f1477 {h : Hp} {o : Nat} (m : MO h o) : hFR h 1477 o = some (o + 48) := (m.2 (1477, 48, 103, 6) (by decide)).1
theorem MO_k48 {h : Hp} {o : Nat} (m : MO h o) : hK h (o + 48) = (103, 6) := (m.2 (1477, 48, 103, 6) (by decide)).2
theorem MO_f1478 {h : Hp} {o : Nat} (m : MO h o) : hFR h 1478 o = some (o + 49) := (m.2 (1478, 49, 103, 800) (by decide)).1
theorem MO_k49 {h : Hp} {o : Nat} (m : MO h o) : hK h (o + 49) = (103, 800) := (m.2 (1478, 49, 103, 800) (by decide)).2
theorem MO_f1480 {h : Hp} {o : Nat} (m : MO h o) : hFR h 1480 o = some (o + 50) := (m.2 (1480, 50, 103, 6) (by decide)).1
theorem MO_k50 {h : Hp} {o : Nat} (m : MO h o) : hK h (o + 50) = (103, 6) := (m.2 (1480, 50, 103, 6) (by decide)).2
theorem MO_f1481 {h : Hp} {o : Nat} (m : MO h o) : hFR h 1481 o = some (o + 51) := (m.2 (1481, 51, 103, 6) (by decide)).1
theorem MO_k51 {h : Hp} {o : Nat} (m : MO h o) : hK h (o + 51) = (103, 6) := (m.2 (1481, 51, 103, 6) (by decide)).2
theorem MO_f1482 {h : Hp} {o : Nat} (m : MO h o) : hFR h 1482 o = some (o + 52) := (m.2 (1482, 52, 103, 6) (by decide)).1
theorem MO_k52 {h : Hp} {o : Nat} (m : MO h o) : hK h (o + 52) = (103, 6) := (m.2 (1482, 52, 103, 6) (by decide)).2
theorem MO_f1484 {h : Hp} {o : Nat} (m : MO h o) : hFR h 1484 o = some (o + 53) := (m.2 (1484, 53, 103, 6) (by decide)).1
theorem MO_k53 {h : Hp} {o : Nat} (m : MO h o) : hK h (o + 53) = (103, 6) := (m.2 (1484, 53, 103, 6) (by decide)).2
theorem MO_f1485 {h : Hp} {o : Nat} (m : MO h o) : hFR h 1485 o = some (o + 54) := (m.2 (1485, 54, 103, 6) (by decide)).1
theorem MO_k54 {h : Hp} {o : Nat} (m : MO h o) : hK h (o + 54) = (103, 6) := (m.2 (1485, 54, 103, 6) (by decide)).2
theorem MO_f1486 {h : Hp} {o : Nat} (m : MO h o) : hFR h 1486 o = some (o + 55) := (m.2 (1486, 55, 103, 7) (by decide)).1
theorem MO_k55 {h : Hp} {o : Nat} (m : MO h o) : hK h (o + 55) = (103, 7) := (m.2 (1486, 55, 103, 7) (by decide)).2
theorem MO_f1487 {h : Hp} {o : Nat} (m : MO h o) : hFR h 1487 o = some (o + 56) := (m.2 (1487, 56, 103, 7) (by decide)).1
theorem MO_k56 {h : Hp} {o : Nat} (m : MO h o) : hK h (o + 56) = (103, 7) := (m.2 (1487, 56, 103, 7) (by decide)).2
theorem MO_f1489 {h : Hp} {o : Nat} (m : MO h o) : hFR h 1489 o = some (o + 57) := (m.2 (1489, 57, 103, 24) (by decide)).1
theorem MO_k57 {h : Hp} {o : Nat} (m : MO h o) : hK h (o + 57) = (103, 24) := (m.2 (1489, 57, 103, 24) (by decide)).2
theorem MO_f1490 {h : Hp} {o : Nat} (m : MO h o) : hFR h 1490 o = some (o + 58) := (m.2 (1490, 58, 103, 6) (by decide)).1
theorem MO_k58 {h : Hp} {o : Nat} (m : MO h o) : hK h (o + 58) = (103, 6) := (m.2 (1490, 58, 103, 6) (by decide)).2
theorem MO_f1491 {h : Hp} {o : Nat} (m : MO h o) : hFR h 1491 o = some (o + 59) := (m.2 (1491, 59, 103, 6) (by decide)).1
theorem MO_k59 {h : Hp} {o : Nat} (m : MO h o) : hK h (o + 59) = (103, 6) := (m.2 (1491, 59, 103, 6) (by decide)).2
theorem MO_f1492 {h : Hp} {o : Nat} (m : MO h o) : hFR h 1492 o = some (o + 60) := (m.2 (1492, 60, 104, 360) (by decide)).1
theorem MO_k60 {h : Hp} {o : Nat} (m : MO h o) : hK h (o + 60) = (104, 360) := (m.2 (1492, 60, 104, 360) (by decide)).2
theorem MO_f1493 {h : Hp} {o : Nat} (m : MO h o) : hFR h 1493 o = some (o + 61) := (m.2 (1493, 61, 104, 60) (by decide)).1
theorem MO_k61 {h : Hp} {o : Nat} (m : MO h o) : hK h (o + 61) = (104, 60) := (m.2 (1493, 61, 104, 60) (by decide)).2
section
variable {M : MI} {d pc : Nat} {L st : List AV} {h : Hp} {b : Nat × Nat} {Q : Rs → Hp → Prop}
theorem go_getRe {idx f kd a : Nat} {r : Option Nat} (q : Nat) (hd : decode M.2.1 pc = .ok (.getfield idx, 3)) (hq : pc + 3 = q) (hk : (hK h a).1 = kd) (hf : GF M.1.cls idx f kd) (hlt : Nat.blt f 1000 = false) (he : hFR h f a = r) (k : AWP M d q L (vR r :: st) h b Q) : AWP M d pc L (vR (some a) :: st) h b Q := by
  subst he
  exact go_getR q hd hq hk hf hlt k
end
theorem AWP.nm {M : MI} {d pc : Nat} {L st : List AV} {h : Hp} {b : Nat × Nat} {Q : Rs → Hp → Prop} (k : ∀ h1, h1 = h → AWP M d pc L st h1 b Q) : AWP M d pc L st h b Q := k h rfl
theorem tsw_out {x : Int32} (n : Nat) (hn : n < 2 ^ 31) (h : ∀ k, k < n → x ≠ nI k) : x.toInt < 0 ∨ (n : Int) - 1 < x.toInt := by
  by_cases h0 : x.toInt < 0
  · exact Or.inl h0
  · refine Or.inr ?_
    by_cases h1 : (n : Int) - 1 < x.toInt
    · exact h1
    · exfalso
      refine h x.toInt.toNat (by omega) ?_
      apply Int32.toInt_inj.mp
      rw [nI_toInt (by omega)]
      omega
theorem tsw3 {x : Int32} (e0 : ¬ x = nI 0) (e1 : ¬ x = nI 1) (e2 : ¬ x = nI 2) : x.toInt < 0 ∨ (2 : Int) < x.toInt := tsw_out 3 (by decide) (fun k hk => by
  match k, hk with
  | 0, _ => exact e0
  | 1, _ => exact e1
  | 2, _ => exact e2)
theorem tsw4 {x : Int32} (e0 : ¬ x = nI 0) (e1 : ¬ x = nI 1) (e2 : ¬ x = nI 2) (e3 : ¬ x = nI 3) : x.toInt < 0 ∨ (3 : Int) < x.toInt := tsw_out 4 (by decide) (fun k hk => by
  match k, hk with
  | 0, _ => exact e0
  | 1, _ => exact e1
  | 2, _ => exact e2
  | 3, _ => exact e3)
theorem tsw5 {x : Int32} (e0 : ¬ x = nI 0) (e1 : ¬ x = nI 1) (e2 : ¬ x = nI 2) (e3 : ¬ x = nI 3) (e4 : ¬ x = nI 4) : x.toInt < 0 ∨ (4 : Int) < x.toInt := tsw_out 5 (by decide) (fun k hk => by
  match k, hk with
  | 0, _ => exact e0
  | 1, _ => exact e1
  | 2, _ => exact e2
  | 3, _ => exact e3
  | 4, _ => exact e4)
theorem tsw6 {x : Int32} (e0 : ¬ x = nI 0) (e1 : ¬ x = nI 1) (e2 : ¬ x = nI 2) (e3 : ¬ x = nI 3) (e4 : ¬ x = nI 4) (e5 : ¬ x = nI 5) : x.toInt < 0 ∨ (5 : Int) < x.toInt := tsw_out 6 (by decide) (fun k hk => by
  match k, hk with
  | 0, _ => exact e0
  | 1, _ => exact e1
  | 2, _ => exact e2
  | 3, _ => exact e3
  | 4, _ => exact e4
  | 5, _ => exact e5)
theorem tsw2 {x : Int32} (e0 : ¬ x = nI 0) (e1 : ¬ x = nI 1) : x.toInt < 0 ∨ (1 : Int) < x.toInt := tsw_out 2 (by decide) (fun k hk => by
  match k, hk with
  | 0, _ => exact e0
  | 1, _ => exact e1)
/-! truth values as ints -/
def bI (p : Prop) [Decidable p] : Int32 := if p then 1 else 0
theorem bI_t {p : Prop} [Decidable p] (h : p) : bI p = 1 := if_pos h
theorem bI_f {p : Prop} [Decidable p] (h : ¬ p) : bI p = 0 := if_neg h
theorem bI_0 {p : Prop} [Decidable p] : bI p = 0 ↔ ¬ p := by unfold bI; split <;> simp_all
theorem bI_1 {p : Prop} [Decidable p] : bI p = 1 ↔ p := by unfold bI; split <;> simp_all
theorem bI_n0 {p : Prop} [Decidable p] : ¬ bI p = 0 ↔ p := by rw [bI_0]; exact Classical.not_not
theorem bI_01 (p : Prop) [Decidable p] : bI p = 0 ∨ bI p = 1 := by unfold bI; split <;> simp
theorem bI_c {p q : Prop} [Decidable p] [Decidable q] (h : p ↔ q) : bI p = bI q := by unfold bI; simp only [h]
