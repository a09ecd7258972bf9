/-! entries (expand.py) -/
set_option maxRecDepth 100000
theorem en0 {d : Nat} {h : mx_H} {a0 : Nat} : evM d 0 [.ref a0] h = ev d 0 0 [some (.ref a0)] [] h := rfl
theorem en1 {d : Nat} {h : mx_H} {a0 : Nat} {a1 : Int64} {a2 : Int32} : evM d 1 [.ref a0, .long a1, .int a2] h = ev d 1 0 [some (.ref a0), some (.long a1), none, some (.int a2), none] [] h := rfl
theorem en2 {d : Nat} {h : mx_H} {a0 : Int32} {a1 : Int32} {a2 : Int32} : evM d 2 [.int a0, .int a1, .int a2] h = ev d 2 0 [some (.int a0), some (.int a1), some (.int a2)] [] h := rfl
theorem en3 {d : Nat} {h : mx_H} {a0 : Nat} : evM d 3 [.ref a0] h = ev d 3 0 [some (.ref a0), none, none] [] h := rfl
theorem en4 {d : Nat} {h : mx_H} {a0 : Nat} {a1 : Int32} {a2 : Int32} : evM d 4 [.ref a0, .int a1, .int a2] h = ev d 4 0 [some (.ref a0), some (.int a1), some (.int a2), none] [] h := rfl
theorem en5 {d : Nat} {h : mx_H} {a0 : Int32} : evM d 5 [.int a0] h = ev d 5 0 [some (.int a0)] [] h := rfl
theorem en6 {d : Nat} {h : mx_H} {a0 : Nat} {a1 : Int32} {a2 : Int32} : evM d 6 [.ref a0, .int a1, .int a2] h = ev d 6 0 [some (.ref a0), some (.int a1), some (.int a2), none] [] h := rfl
theorem en7 {d : Nat} {h : mx_H} {a0 : Nat} {a1 : Int32} {a2 : Int32} {a3 : Int32} : evM d 7 [.ref a0, .int a1, .int a2, .int a3] h = ev d 7 0 [some (.ref a0), some (.int a1), some (.int a2), some (.int a3)] [] h := rfl
theorem en8 {d : Nat} {h : mx_H} {a0 : Int32} : evM d 8 [.int a0] h = ev d 8 0 [some (.int a0)] [] h := rfl
theorem en9 {d : Nat} {h : mx_H} {a0 : Nat} {a1 : Int32} {a2 : Int32} : evM d 9 [.ref a0, .int a1, .int a2] h = ev d 9 0 [some (.ref a0), some (.int a1), some (.int a2), none] [] h := rfl
theorem en10 {d : Nat} {h : mx_H} {a0 : Int32} : evM d 10 [.int a0] h = ev d 10 0 [some (.int a0)] [] h := rfl
theorem en11 {d : Nat} {h : mx_H} {a0 : Int32} : evM d 11 [.int a0] h = ev d 11 0 [some (.int a0)] [] h := rfl
theorem en12 {d : Nat} {h : mx_H} {a0 : Nat} {a1 : Int32} : evM d 12 [.ref a0, .int a1] h = ev d 12 0 [some (.ref a0), some (.int a1)] [] h := rfl
theorem en13 {d : Nat} {h : mx_H} {a0 : Nat} {a1 : Int32} {a2 : Int32} : evM d 13 [.ref a0, .int a1, .int a2] h = ev d 13 0 [some (.ref a0), some (.int a1), some (.int a2), none] [] h := rfl
theorem en14 {d : Nat} {h : mx_H} {a0 : Nat} {a1 : Int32} {a2 : Int32} : evM d 14 [.ref a0, .int a1, .int a2] h = ev d 14 0 [some (.ref a0), some (.int a1), some (.int a2)] [] h := rfl
theorem en15 {d : Nat} {h : mx_H} {a0 : Nat} {a1 : Int32} : evM d 15 [.ref a0, .int a1] h = ev d 15 0 [some (.ref a0), some (.int a1), none] [] h := rfl
theorem en16 {d : Nat} {h : mx_H} {a0 : Nat} {a1 : Int32} : evM d 16 [.ref a0, .int a1] h = ev d 16 0 [some (.ref a0), some (.int a1)] [] h := rfl
theorem en17 {d : Nat} {h : mx_H} {a0 : Int32} {a1 : Int32} : evM d 17 [.int a0, .int a1] h = ev d 17 0 [some (.int a0), some (.int a1), none, none] [] h := rfl
theorem en18 {d : Nat} {h : mx_H} {a0 : Nat} {a1 : Int32} {a2 : Int32} : evM d 18 [.ref a0, .int a1, .int a2] h = ev d 18 0 [some (.ref a0), some (.int a1), some (.int a2)] [] h := rfl
theorem en19 {d : Nat} {h : mx_H} {a0 : Nat} {a1 : Int32} {a2 : Int32} : evM d 19 [.ref a0, .int a1, .int a2] h = ev d 19 0 [some (.ref a0), some (.int a1), some (.int a2)] [] h := rfl
theorem en20 {d : Nat} {h : mx_H} {a0 : Nat} {a1 : Int32} {a2 : Int32} : evM d 20 [.ref a0, .int a1, .int a2] h = ev d 20 0 [some (.ref a0), some (.int a1), some (.int a2)] [] h := rfl
theorem en21 {d : Nat} {h : mx_H} {a0 : Nat} {a1 : Int32} : evM d 21 [.ref a0, .int a1] h = ev d 21 0 [some (.ref a0), some (.int a1), none] [] h := rfl
theorem en22 {d : Nat} {h : mx_H} {a0 : Nat} {a1 : Nat} : evM d 22 [.ref a0, .ref a1] h = ev d 22 0 [some (.ref a0), some (.ref a1), none, none] [] h := rfl
theorem en23 {d : Nat} {h : mx_H} {a0 : Nat} {a1 : Int32} : evM d 23 [.ref a0, .int a1] h = ev d 23 0 [some (.ref a0), some (.int a1), none] [] h := rfl
theorem en24 {d : Nat} {h : mx_H} {a0 : Nat} : evM d 24 [.ref a0] h = ev d 24 0 [some (.ref a0), none] [] h := rfl
theorem en25 {d : Nat} {h : mx_H} {a0 : Nat} {a1 : Nat} {a2 : Int32} : evM d 25 [.ref a0, .ref a1, .int a2] h = ev d 25 0 [some (.ref a0), some (.ref a1), some (.int a2), none] [] h := rfl
theorem en26 {d : Nat} {h : mx_H} {a0 : Int32} {a1 : Int32} : evM d 26 [.int a0, .int a1] h = ev d 26 0 [some (.int a0), some (.int a1)] [] h := rfl
theorem en27 {d : Nat} {h : mx_H} {a0 : Nat} : evM d 27 [.ref a0] h = ev d 27 0 [some (.ref a0), none] [] h := rfl
theorem en28 {d : Nat} {h : mx_H} {a0 : Nat} {a1 : Int32} : evM d 28 [.ref a0, .int a1] h = ev d 28 0 [some (.ref a0), some (.int a1)] [] h := rfl
theorem en29 {d : Nat} {h : mx_H} {a0 : Nat} {a1 : Int32} : evM d 29 [.ref a0, .int a1] h = ev d 29 0 [some (.ref a0), some (.int a1), none] [] h := rfl
theorem en30 {d : Nat} {h : mx_H} {a0 : Nat} {a1 : Int32} : evM d 30 [.ref a0, .int a1] h = ev d 30 0 [some (.ref a0), some (.int a1), none] [] h := rfl
theorem en31 {d : Nat} {h : mx_H} {a0 : Nat} {a1 : Int32} {a2 : Int32} : evM d 31 [.ref a0, .int a1, .int a2] h = ev d 31 0 [some (.ref a0), some (.int a1), some (.int a2), none] [] h := rfl
theorem en32 {d : Nat} {h : mx_H} {a0 : Nat} {a1 : Int32} {a2 : Int32} : evM d 32 [.ref a0, .int a1, .int a2] h = ev d 32 0 [some (.ref a0), some (.int a1), some (.int a2), none, none, none] [] h := rfl
theorem en33 {d : Nat} {h : mx_H} {a0 : Nat} {a1 : Int32} {a2 : Int32} : evM d 33 [.ref a0, .int a1, .int a2] h = ev d 33 0 [some (.ref a0), some (.int a1), some (.int a2), none] [] h := rfl
theorem en34 {d : Nat} {h : mx_H} {a0 : Nat} {a1 : Int32} : evM d 34 [.ref a0, .int a1] h = ev d 34 0 [some (.ref a0), some (.int a1)] [] h := rfl
theorem en35 {d : Nat} {h : mx_H} {a0 : Nat} {a1 : Int32} : evM d 35 [.ref a0, .int a1] h = ev d 35 0 [some (.ref a0), some (.int a1), none] [] h := rfl
theorem en36 {d : Nat} {h : mx_H} {a0 : Nat} {a1 : Int32} {a2 : Int32} : evM d 36 [.ref a0, .int a1, .int a2] h = ev d 36 0 [some (.ref a0), some (.int a1), some (.int a2)] [] h := rfl
theorem en37 {d : Nat} {h : mx_H} {a0 : Nat} : evM d 37 [.ref a0] h = ev d 37 0 [some (.ref a0)] [] h := rfl
theorem en38 {d : Nat} {h : mx_H} {a0 : Nat} {a1 : Int32} : evM d 38 [.ref a0, .int a1] h = ev d 38 0 [some (.ref a0), some (.int a1), none, none, none] [] h := rfl
theorem en39 {d : Nat} {h : mx_H} {a0 : Nat} {a1 : Int32} : evM d 39 [.ref a0, .int a1] h = ev d 39 0 [some (.ref a0), some (.int a1), none] [] h := rfl
theorem en40 {d : Nat} {h : mx_H} {a0 : Nat} {a1 : Int32} {a2 : Int32} : evM d 40 [.ref a0, .int a1, .int a2] h = ev d 40 0 [some (.ref a0), some (.int a1), some (.int a2)] [] h := rfl
theorem en41 {d : Nat} {h : mx_H} {a0 : Nat} {a1 : Int32} {a2 : Int32} : evM d 41 [.ref a0, .int a1, .int a2] h = ev d 41 0 [some (.ref a0), some (.int a1), some (.int a2)] [] h := rfl
theorem en42 {d : Nat} {h : mx_H} {a0 : Nat} {a1 : Int32} {a2 : Int32} {a3 : Int32} : evM d 42 [.ref a0, .int a1, .int a2, .int a3] h = ev d 42 0 [some (.ref a0), some (.int a1), some (.int a2), some (.int a3), none] [] h := rfl
theorem en43 {d : Nat} {h : mx_H} {a0 : Nat} : evM d 43 [.ref a0] h = ev d 43 0 [some (.ref a0)] [] h := rfl
theorem en44 {d : Nat} {h : mx_H} {a0 : Nat} : evM d 44 [.ref a0] h = ev d 44 0 [some (.ref a0), none] [] h := rfl
theorem en45 {d : Nat} {h : mx_H} {a0 : Nat} {a1 : Int32} {a2 : Int32} {a3 : Int32} {a4 : Int32} : evM d 45 [.ref a0, .int a1, .int a2, .int a3, .int a4] h = ev d 45 0 [some (.ref a0), some (.int a1), some (.int a2), some (.int a3), some (.int a4), none] [] h := rfl
theorem en46 {d : Nat} {h : mx_H} {a0 : Int32} : evM d 46 [.int a0] h = ev d 46 0 [some (.int a0)] [] h := rfl
theorem en47 {d : Nat} {h : mx_H} {a0 : Nat} {a1 : Nat} : evM d 47 [.ref a0, .ref a1] h = ev d 47 0 [some (.ref a0), some (.ref a1)] [] h := rfl
theorem en48 {d : Nat} {h : mx_H} {a0 : Nat} : evM d 48 [.ref a0] h = ev d 48 0 [some (.ref a0)] [] h := rfl
theorem en49 {d : Nat} {h : mx_H} {a0 : Nat} {a1 : Nat} {a2 : Int32} {a3 : Int32} {a4 : Int32} : evM d 49 [.ref a0, .ref a1, .int a2, .int a3, .int a4] h = ev d 49 0 [some (.ref a0), some (.ref a1), some (.int a2), some (.int a3), some (.int a4), none] [] h := rfl
theorem en50 {d : Nat} {h : mx_H} {a0 : Nat} {a1 : Int32} {a2 : Int32} : evM d 50 [.ref a0, .int a1, .int a2] h = ev d 50 0 [some (.ref a0), some (.int a1), some (.int a2)] [] h := rfl
theorem en51 {d : Nat} {h : mx_H} {a0 : Nat} {a1 : Int32} {a2 : Int32} {a3 : Int32} : evM d 51 [.ref a0, .int a1, .int a2, .int a3] h = ev d 51 0 [some (.ref a0), some (.int a1), some (.int a2), some (.int a3), none] [] h := rfl
theorem en52 {d : Nat} {h : mx_H} {a0 : Nat} {a1 : Int32} {a2 : Int32} {a3 : Int32} : evM d 52 [.ref a0, .int a1, .int a2, .int a3] h = ev d 52 0 [some (.ref a0), some (.int a1), some (.int a2), some (.int a3), none] [] h := rfl
theorem en53 {d : Nat} {h : mx_H} {a0 : Nat} {a1 : Nat} {a2 : Int32} {a3 : Int32} : evM d 53 [.ref a0, .ref a1, .int a2, .int a3] h = ev d 53 0 [some (.ref a0), some (.ref a1), some (.int a2), some (.int a3)] [] h := rfl
theorem en54 {d : Nat} {h : mx_H} {a0 : Nat} : evM d 54 [.ref a0] h = ev d 54 0 [some (.ref a0)] [] h := rfl
theorem en55 {d : Nat} {h : mx_H} {a0 : Nat} {a1 : Int32} {a2 : Int32} {a3 : Int32} : evM d 55 [.ref a0, .int a1, .int a2, .int a3] h = ev d 55 0 [some (.ref a0), some (.int a1), some (.int a2), some (.int a3), none] [] h := rfl
theorem en56 {d : Nat} {h : mx_H} {a0 : Nat} {a1 : Nat} {a2 : Int32} {a3 : Int32} : evM d 56 [.ref a0, .ref a1, .int a2, .int a3] h = ev d 56 0 [some (.ref a0), some (.ref a1), some (.int a2), some (.int a3)] [] h := rfl
theorem en57 {d : Nat} {h : mx_H} {a0 : Nat} {a1 : Nat} {a2 : Int32} : evM d 57 [.ref a0, .ref a1, .int a2] h = ev d 57 0 [some (.ref a0), some (.ref a1), some (.int a2)] [] h := rfl
theorem en58 {d : Nat} {h : mx_H} {a0 : Nat} {a1 : Nat} {a2 : Int32} : evM d 58 [.ref a0, .ref a1, .int a2] h = ev d 58 0 [some (.ref a0), some (.ref a1), some (.int a2)] [] h := rfl
theorem en59 {d : Nat} {h : mx_H} {a0 : Nat} {a1 : Nat} {a2 : Int32} : evM d 59 [.ref a0, .ref a1, .int a2] h = ev d 59 0 [some (.ref a0), some (.ref a1), some (.int a2)] [] h := rfl
theorem en60 {d : Nat} {h : mx_H} {a0 : Nat} {a1 : Nat} {a2 : Int32} : evM d 60 [.ref a0, .ref a1, .int a2] h = ev d 60 0 [some (.ref a0), some (.ref a1), some (.int a2)] [] h := rfl
theorem en61 {d : Nat} {h : mx_H} {a0 : Nat} {a1 : Int32} {a2 : Int32} {a3 : Int32} : evM d 61 [.ref a0, .int a1, .int a2, .int a3] h = ev d 61 0 [some (.ref a0), some (.int a1), some (.int a2), some (.int a3)] [] h := rfl
theorem en62 {d : Nat} {h : mx_H} {a0 : Int32} : evM d 62 [.int a0] h = ev d 62 0 [some (.int a0)] [] h := rfl
theorem en63 {d : Nat} {h : mx_H} {a0 : Nat} {a1 : Int32} {a2 : Int32} : evM d 63 [.ref a0, .int a1, .int a2] h = ev d 63 0 [some (.ref a0), some (.int a1), some (.int a2), none] [] h := rfl
theorem en64 {d : Nat} {h : mx_H} {a0 : Nat} {a1 : Nat} : evM d 64 [.ref a0, .ref a1] h = ev d 64 0 [some (.ref a0), some (.ref a1)] [] h := rfl
theorem en65 {d : Nat} {h : mx_H} {a0 : Nat} {a1 : Int32} : evM d 65 [.ref a0, .int a1] h = ev d 65 0 [some (.ref a0), some (.int a1)] [] h := rfl
theorem en66 {d : Nat} {h : mx_H} {a0 : Nat} {a1 : Int32} : evM d 66 [.ref a0, .int a1] h = ev d 66 0 [some (.ref a0), some (.int a1)] [] h := rfl
theorem en67 {d : Nat} {h : mx_H} {a0 : Nat} {a1 : Int32} {a2 : Int32} {a3 : Int32} : evM d 67 [.ref a0, .int a1, .int a2, .int a3] h = ev d 67 0 [some (.ref a0), some (.int a1), some (.int a2), some (.int a3), none, none] [] h := rfl
theorem en68 {d : Nat} {h : mx_H} {a0 : Nat} {a1 : Int32} {a2 : Int32} : evM d 68 [.ref a0, .int a1, .int a2] h = ev d 68 0 [some (.ref a0), some (.int a1), some (.int a2)] [] h := rfl
theorem en69 {d : Nat} {h : mx_H} {a0 : Nat} {a1 : Int32} : evM d 69 [.ref a0, .int a1] h = ev d 69 0 [some (.ref a0), some (.int a1)] [] h := rfl
theorem en70 {d : Nat} {h : mx_H} {a0 : Nat} {a1 : Int32} : evM d 70 [.ref a0, .int a1] h = ev d 70 0 [some (.ref a0), some (.int a1)] [] h := rfl
theorem en71 {d : Nat} {h : mx_H} {a0 : Nat} {a1 : Int32} : evM d 71 [.ref a0, .int a1] h = ev d 71 0 [some (.ref a0), some (.int a1)] [] h := rfl
theorem en72 {d : Nat} {h : mx_H} {a0 : Nat} : evM d 72 [.ref a0] h = ev d 72 0 [some (.ref a0)] [] h := rfl
theorem en73 {d : Nat} {h : mx_H} {a0 : Nat} : evM d 73 [.ref a0] h = ev d 73 0 [some (.ref a0)] [] h := rfl
theorem en74 {d : Nat} {h : mx_H} {a0 : Nat} : evM d 74 [.ref a0] h = ev d 74 0 [some (.ref a0), none] [] h := rfl
theorem en75 {d : Nat} {h : mx_H} {a0 : Nat} {a1 : Nat} : evM d 75 [.ref a0, .ref a1] h = ev d 75 0 [some (.ref a0), some (.ref a1)] [] h := rfl
theorem en76 {d : Nat} {h : mx_H} {a0 : Nat} {a1 : Nat} : evM d 76 [.ref a0, .ref a1] h = ev d 76 0 [some (.ref a0), some (.ref a1)] [] h := rfl
theorem en77 {d : Nat} {h : mx_H} {a0 : Nat} {a1 : Int32} {a2 : Int32} : evM d 77 [.ref a0, .int a1, .int a2] h = ev d 77 0 [some (.ref a0), some (.int a1), some (.int a2)] [] h := rfl
theorem en78 {d : Nat} {h : mx_H} {a0 : Nat} {a1 : Int32} {a2 : Int32} : evM d 78 [.ref a0, .int a1, .int a2] h = ev d 78 0 [some (.ref a0), some (.int a1), some (.int a2), none] [] h := rfl
theorem en79 {d : Nat} {h : mx_H} {a0 : Nat} {a1 : Int32} : evM d 79 [.ref a0, .int a1] h = ev d 79 0 [some (.ref a0), some (.int a1)] [] h := rfl
theorem en80 {d : Nat} {h : mx_H} {a0 : Nat} {a1 : Nat} : evM d 80 [.ref a0, .ref a1] h = ev d 80 0 [some (.ref a0), some (.ref a1)] [] h := rfl
theorem en81 {d : Nat} {h : mx_H} {a0 : Nat} : evM d 81 [.ref a0] h = ev d 81 0 [some (.ref a0)] [] h := rfl
theorem en82 {d : Nat} {h : mx_H} {a0 : Nat} : evM d 82 [.ref a0] h = ev d 82 0 [some (.ref a0)] [] h := rfl
theorem en83 {d : Nat} {h : mx_H} {a0 : Nat} : evM d 83 [.ref a0] h = ev d 83 0 [some (.ref a0)] [] h := rfl
theorem en84 {d : Nat} {h : mx_H} {a0 : Nat} {a1 : Nat} : evM d 84 [.ref a0, .ref a1] h = ev d 84 0 [some (.ref a0), some (.ref a1)] [] h := rfl
theorem en85 {d : Nat} {h : mx_H} {a0 : Nat} {a1 : Nat} : evM d 85 [.ref a0, .ref a1] h = ev d 85 0 [some (.ref a0), some (.ref a1)] [] h := rfl
theorem en86 {d : Nat} {h : mx_H} {a0 : Nat} : evM d 86 [.ref a0] h = ev d 86 0 [some (.ref a0)] [] h := rfl
theorem en87 {d : Nat} {h : mx_H} {a0 : Nat} {a1 : Nat} : evM d 87 [.ref a0, .ref a1] h = ev d 87 0 [some (.ref a0), some (.ref a1)] [] h := rfl
theorem en88 {d : Nat} {h : mx_H} {a0 : Nat} {a1 : Nat} {a2 : Int32} : evM d 88 [.ref a0, .ref a1, .int a2] h = ev d 88 0 [some (.ref a0), some (.ref a1), some (.int a2)] [] h := rfl
theorem en89 {d : Nat} {h : mx_H} {a0 : Nat} {a1 : Int32} : evM d 89 [.ref a0, .int a1] h = ev d 89 0 [some (.ref a0), some (.int a1)] [] h := rfl
theorem en90 {d : Nat} {h : mx_H} {a0 : Nat} {a1 : Int32} {a2 : Int32} : evM d 90 [.ref a0, .int a1, .int a2] h = ev d 90 0 [some (.ref a0), some (.int a1), some (.int a2)] [] h := rfl
theorem en91 {d : Nat} {h : mx_H} {a0 : Nat} {a1 : Nat} : evM d 91 [.ref a0, .ref a1] h = ev d 91 0 [some (.ref a0), some (.ref a1)] [] h := rfl
theorem en92 {d : Nat} {h : mx_H} {a0 : Nat} {a1 : Nat} {a2 : Int32} : evM d 92 [.ref a0, .ref a1, .int a2] h = ev d 92 0 [some (.ref a0), some (.ref a1), some (.int a2)] [] h := rfl
theorem en93 {d : Nat} {h : mx_H} {a0 : Nat} {a1 : Int32} : evM d 93 [.ref a0, .int a1] h = ev d 93 0 [some (.ref a0), some (.int a1)] [] h := rfl
theorem en94 {d : Nat} {h : mx_H} {a0 : Nat} {a1 : Int32} {a2 : Int32} : evM d 94 [.ref a0, .int a1, .int a2] h = ev d 94 0 [some (.ref a0), some (.int a1), some (.int a2)] [] h := rfl
theorem en95 {d : Nat} {h : mx_H} {a0 : Nat} {a1 : Nat} : evM d 95 [.ref a0, .ref a1] h = ev d 95 0 [some (.ref a0), some (.ref a1)] [] h := rfl
theorem en96 {d : Nat} {h : mx_H} {a0 : Nat} {a1 : Nat} {a2 : Int32} : evM d 96 [.ref a0, .ref a1, .int a2] h = ev d 96 0 [some (.ref a0), some (.ref a1), some (.int a2)] [] h := rfl
theorem en97 {d : Nat} {h : mx_H} {a0 : Nat} {a1 : Int32} : evM d 97 [.ref a0, .int a1] h = ev d 97 0 [some (.ref a0), some (.int a1)] [] h := rfl
theorem en98 {d : Nat} {h : mx_H} {a0 : Nat} {a1 : Int32} {a2 : Int32} : evM d 98 [.ref a0, .int a1, .int a2] h = ev d 98 0 [some (.ref a0), some (.int a1), some (.int a2)] [] h := rfl
theorem en99 {d : Nat} {h : mx_H} {a0 : Nat} {a1 : Nat} : evM d 99 [.ref a0, .ref a1] h = ev d 99 0 [some (.ref a0), some (.ref a1)] [] h := rfl
theorem en100 {d : Nat} {h : mx_H} {a0 : Nat} {a1 : Nat} {a2 : Int32} : evM d 100 [.ref a0, .ref a1, .int a2] h = ev d 100 0 [some (.ref a0), some (.ref a1), some (.int a2)] [] h := rfl
theorem en101 {d : Nat} {h : mx_H} {a0 : Nat} {a1 : Int32} : evM d 101 [.ref a0, .int a1] h = ev d 101 0 [some (.ref a0), some (.int a1)] [] h := rfl
theorem en102 {d : Nat} {h : mx_H} {a0 : Nat} {a1 : Int32} {a2 : Int32} : evM d 102 [.ref a0, .int a1, .int a2] h = ev d 102 0 [some (.ref a0), some (.int a1), some (.int a2)] [] h := rfl
theorem en103 {d : Nat} {h : mx_H} {a0 : Nat} {a1 : Nat} : evM d 103 [.ref a0, .ref a1] h = ev d 103 0 [some (.ref a0), some (.ref a1)] [] h := rfl
theorem en104 {d : Nat} {h : mx_H} {a0 : Nat} {a1 : Int32} : evM d 104 [.ref a0, .int a1] h = ev d 104 0 [some (.ref a0), some (.int a1)] [] h := rfl
theorem en105 {d : Nat} {h : mx_H} {a0 : Nat} : evM d 105 [.ref a0] h = ev d 105 0 [some (.ref a0)] [] h := rfl
theorem en106 {d : Nat} {h : mx_H} {a0 : Nat} {a1 : Int32} {a2 : Int32} : evM d 106 [.ref a0, .int a1, .int a2] h = ev d 106 0 [some (.ref a0), some (.int a1), some (.int a2)] [] h := rfl
theorem en107 {d : Nat} {h : mx_H} {a0 : Nat} {a1 : Nat} : evM d 107 [.ref a0, .ref a1] h = ev d 107 0 [some (.ref a0), some (.ref a1)] [] h := rfl
theorem en108 {d : Nat} {h : mx_H} {a0 : Nat} {a1 : Int32} : evM d 108 [.ref a0, .int a1] h = ev d 108 0 [some (.ref a0), some (.int a1)] [] h := rfl
theorem en109 {d : Nat} {h : mx_H} {a0 : Nat} {a1 : Int32} {a2 : Int32} : evM d 109 [.ref a0, .int a1, .int a2] h = ev d 109 0 [some (.ref a0), some (.int a1), some (.int a2)] [] h := rfl
theorem en110 {d : Nat} {h : mx_H} {a0 : Nat} {a1 : Nat} : evM d 110 [.ref a0, .ref a1] h = ev d 110 0 [some (.ref a0), some (.ref a1)] [] h := rfl
theorem en111 {d : Nat} {h : mx_H} {a0 : Nat} {a1 : Nat} {a2 : Int32} : evM d 111 [.ref a0, .ref a1, .int a2] h = ev d 111 0 [some (.ref a0), some (.ref a1), some (.int a2)] [] h := rfl
theorem en112 {d : Nat} {h : mx_H} {a0 : Nat} {a1 : Nat} {a2 : Int32} : evM d 112 [.ref a0, .ref a1, .int a2] h = ev d 112 0 [some (.ref a0), some (.ref a1), some (.int a2)] [] h := rfl
theorem en113 {d : Nat} {h : mx_H} {a0 : Nat} : evM d 113 [.ref a0] h = ev d 113 0 [some (.ref a0), none, none] [] h := rfl
theorem en114 {d : Nat} {h : mx_H} {a0 : Nat} : evM d 114 [.ref a0] h = ev d 114 0 [some (.ref a0)] [] h := rfl
theorem en115 {d : Nat} {h : mx_H} {a0 : Int32} : evM d 115 [.int a0] h = ev d 115 0 [some (.int a0)] [] h := rfl
theorem en116 {d : Nat} {h : mx_H} {a0 : Int32} : evM d 116 [.int a0] h = ev d 116 0 [some (.int a0)] [] h := rfl
theorem en117 {d : Nat} {h : mx_H} {a0 : Nat} : evM d 117 [.ref a0] h = ev d 117 0 [some (.ref a0), none] [] h := rfl
theorem en118 {d : Nat} {h : mx_H} {a0 : Nat} {a1 : Nat} : evM d 118 [.ref a0, .ref a1] h = ev d 118 0 [some (.ref a0), some (.ref a1), none, none] [] h := rfl
theorem en119 {d : Nat} {h : mx_H} {a0 : Nat} {a1 : Int32} : evM d 119 [.ref a0, .int a1] h = ev d 119 0 [some (.ref a0), some (.int a1)] [] h := rfl
theorem en120 {d : Nat} {h : mx_H} {a0 : Nat} {a1 : Nat} : evM d 120 [.ref a0, .ref a1] h = ev d 120 0 [some (.ref a0), some (.ref a1)] [] h := rfl
theorem en121 {d : Nat} {h : mx_H} {a0 : Nat} : evM d 121 [.ref a0] h = ev d 121 0 [some (.ref a0), none] [] h := rfl
theorem en122 {d : Nat} {h : mx_H} {a0 : Nat} : evM d 122 [.ref a0] h = ev d 122 0 [some (.ref a0), none] [] h := rfl
theorem en123 {d : Nat} {h : mx_H} {a0 : Nat} : evM d 123 [.ref a0] h = ev d 123 0 [some (.ref a0), none, none, none, none] [] h := rfl
theorem en124 {d : Nat} {h : mx_H} {a0 : Nat} {a1 : Nat} : evM d 124 [.ref a0, .ref a1] h = ev d 124 0 [some (.ref a0), some (.ref a1)] [] h := rfl
theorem en125 {d : Nat} {h : mx_H} {a0 : Nat} : evM d 125 [.ref a0] h = ev d 125 0 [some (.ref a0), none] [] h := rfl
theorem en126 {d : Nat} {h : mx_H} {a0 : Nat} {a1 : Int32} {a2 : Int32} : evM d 126 [.ref a0, .int a1, .int a2] h = ev d 126 0 [some (.ref a0), some (.int a1), some (.int a2), none] [] h := rfl
theorem en127 {d : Nat} {h : mx_H} {a0 : Nat} {a1 : Int32} {a2 : Int32} : evM d 127 [.ref a0, .int a1, .int a2] h = ev d 127 0 [some (.ref a0), some (.int a1), some (.int a2), none, none] [] h := rfl
theorem en128 {d : Nat} {h : mx_H} {a0 : Nat} : evM d 128 [.ref a0] h = ev d 128 0 [some (.ref a0)] [] h := rfl
theorem en129 {d : Nat} {h : mx_H} {a0 : Nat} {a1 : Int32} : evM d 129 [.ref a0, .int a1] h = ev d 129 0 [some (.ref a0), some (.int a1)] [] h := rfl
theorem en130 {d : Nat} {h : mx_H} {a0 : Nat} {a1 : Nat} : evM d 130 [.ref a0, .ref a1] h = ev d 130 0 [some (.ref a0), some (.ref a1)] [] h := rfl
theorem en131 {d : Nat} {h : mx_H} {a0 : Nat} {a1 : Nat} : evM d 131 [.ref a0, .ref a1] h = ev d 131 0 [some (.ref a0), some (.ref a1), none, none, none, none] [] h := rfl
theorem en132 {d : Nat} {h : mx_H} {a0 : Nat} {a1 : Nat} : evM d 132 [.ref a0, .ref a1] h = ev d 132 0 [some (.ref a0), some (.ref a1)] [] h := rfl
theorem en133 {d : Nat} {h : mx_H} {a0 : Nat} {a1 : Nat} {a2 : Int32} : evM d 133 [.ref a0, .ref a1, .int a2] h = ev d 133 0 [some (.ref a0), some (.ref a1), some (.int a2)] [] h := rfl
theorem en134 {d : Nat} {h : mx_H} {a0 : Nat} {a1 : Nat} : evM d 134 [.ref a0, .ref a1] h = ev d 134 0 [some (.ref a0), some (.ref a1)] [] h := rfl
theorem en135 {d : Nat} {h : mx_H} {a0 : Nat} {a1 : Nat} {a2 : Int32} : evM d 135 [.ref a0, .ref a1, .int a2] h = ev d 135 0 [some (.ref a0), some (.ref a1), some (.int a2), none] [] h := rfl
theorem en136 {d : Nat} {h : mx_H} {a0 : Nat} {a1 : Nat} : evM d 136 [.ref a0, .ref a1] h = ev d 136 0 [some (.ref a0), some (.ref a1)] [] h := rfl
theorem en137 {d : Nat} {h : mx_H} {a0 : Nat} {a1 : Nat} {a2 : Int32} : evM d 137 [.ref a0, .ref a1, .int a2] h = ev d 137 0 [some (.ref a0), some (.ref a1), some (.int a2)] [] h := rfl
theorem en138 {d : Nat} {h : mx_H} {a0 : Nat} : evM d 138 [.ref a0] h = ev d 138 0 [some (.ref a0)] [] h := rfl
theorem en139 {d : Nat} {h : mx_H} {a0 : Nat} : evM d 139 [.ref a0] h = ev d 139 0 [some (.ref a0)] [] h := rfl
theorem en140 {d : Nat} {h : mx_H} {a0 : Nat} {a1 : Int32} {a2 : Int32} : evM d 140 [.ref a0, .int a1, .int a2] h = ev d 140 0 [some (.ref a0), some (.int a1), some (.int a2)] [] h := rfl
theorem en141 {d : Nat} {h : mx_H} {a0 : Nat} : evM d 141 [.ref a0] h = ev d 141 0 [some (.ref a0)] [] h := rfl
theorem en142 {d : Nat} {h : mx_H} {a0 : Nat} : evM d 142 [.ref a0] h = ev d 142 0 [some (.ref a0)] [] h := rfl
theorem en143 {d : Nat} {h : mx_H} {a0 : Nat} : evM d 143 [.ref a0] h = ev d 143 0 [some (.ref a0)] [] h := rfl
theorem en144 {d : Nat} {h : mx_H} {a0 : Nat} : evM d 144 [.ref a0] h = ev d 144 0 [some (.ref a0)] [] h := rfl
theorem en145 {d : Nat} {h : mx_H} {a0 : Nat} {a1 : Int64} {a2 : Int32} : evM d 145 [.ref a0, .long a1, .int a2] h = ev d 145 0 [some (.ref a0), some (.long a1), none, some (.int a2), none] [] h := rfl
theorem en146 {d : Nat} {h : mx_H} {a0 : Int32} {a1 : Int32} {a2 : Int32} : evM d 146 [.int a0, .int a1, .int a2] h = ev d 146 0 [some (.int a0), some (.int a1), some (.int a2)] [] h := rfl
theorem en147 {d : Nat} {h : mx_H} {a0 : Nat} : evM d 147 [.ref a0] h = ev d 147 0 [some (.ref a0), none, none] [] h := rfl
theorem en148 {d : Nat} {h : mx_H} {a0 : Nat} : evM d 148 [.ref a0] h = ev d 148 0 [some (.ref a0), none] [] h := rfl
theorem en149 {d : Nat} {h : mx_H} {a0 : Nat} {a1 : Int32} : evM d 149 [.ref a0, .int a1] h = ev d 149 0 [some (.ref a0), some (.int a1)] [] h := rfl
theorem en150 {d : Nat} {h : mx_H} {a0 : Int32} : evM d 150 [.int a0] h = ev d 150 0 [some (.int a0)] [] h := rfl
theorem en151 {d : Nat} {h : mx_H} {a0 : Int32} : evM d 151 [.int a0] h = ev d 151 0 [some (.int a0)] [] h := rfl
theorem en152 {d : Nat} {h : mx_H} {a0 : Nat} {a1 : Int32} : evM d 152 [.ref a0, .int a1] h = ev d 152 0 [some (.ref a0), some (.int a1), none, none] [] h := rfl
theorem en153 {d : Nat} {h : mx_H} {a0 : Nat} : evM d 153 [.ref a0] h = ev d 153 0 [some (.ref a0)] [] h := rfl
theorem en154 {d : Nat} {h : mx_H} {a0 : Nat} {a1 : Int64} : evM d 154 [.ref a0, .long a1] h = ev d 154 0 [some (.ref a0), some (.long a1), none] [] h := rfl
theorem en155 {d : Nat} {h : mx_H} {a0 : Nat} {a1 : Int64} {a2 : Int64} {a3 : Int64} : evM d 155 [.ref a0, .long a1, .long a2, .long a3] h = ev d 155 0 [some (.ref a0), some (.long a1), none, some (.long a2), none, some (.long a3), none, none, none, none] [] h := rfl
theorem en156 {d : Nat} {h : mx_H} {a0 : Nat} {a1 : Int32} : evM d 156 [.ref a0, .int a1] h = ev d 156 0 [some (.ref a0), some (.int a1)] [] h := rfl
theorem en157 {d : Nat} {h : mx_H} {a0 : Nat} {a1 : Int32} : evM d 157 [.ref a0, .int a1] h = ev d 157 0 [some (.ref a0), some (.int a1)] [] h := rfl
theorem en158 {d : Nat} {h : mx_H} {a0 : Nat} : evM d 158 [.ref a0] h = ev d 158 0 [some (.ref a0), none] [] h := rfl
theorem en159 {d : Nat} {h : mx_H} {a0 : Nat} : evM d 159 [.ref a0] h = ev d 159 0 [some (.ref a0), none] [] h := rfl
theorem en160 {d : Nat} {h : mx_H} {a0 : Nat} : evM d 160 [.ref a0] h = ev d 160 0 [some (.ref a0)] [] h := rfl
theorem en161 {d : Nat} {h : mx_H} {a0 : Nat} {a1 : Int32} : evM d 161 [.ref a0, .int a1] h = ev d 161 0 [some (.ref a0), some (.int a1)] [] h := rfl
theorem en162 {d : Nat} {h : mx_H} {a0 : Nat} {a1 : Int32} : evM d 162 [.ref a0, .int a1] h = ev d 162 0 [some (.ref a0), some (.int a1)] [] h := rfl
theorem en163 {d : Nat} {h : mx_H} {a0 : Nat} {a1 : Int32} : evM d 163 [.ref a0, .int a1] h = ev d 163 0 [some (.ref a0), some (.int a1)] [] h := rfl
theorem en164 {d : Nat} {h : mx_H} {a0 : Nat} {a1 : Int32} {a2 : Int32} : evM d 164 [.ref a0, .int a1, .int a2] h = ev d 164 0 [some (.ref a0), some (.int a1), some (.int a2), none] [] h := rfl
theorem en165 {d : Nat} {h : mx_H} {a0 : Int32} : evM d 165 [.int a0] h = ev d 165 0 [some (.int a0)] [] h := rfl
theorem en166 {d : Nat} {h : mx_H} {a0 : Nat} {a1 : Int32} {a2 : Int32} : evM d 166 [.ref a0, .int a1, .int a2] h = ev d 166 0 [some (.ref a0), some (.int a1), some (.int a2), none] [] h := rfl
theorem en167 {d : Nat} {h : mx_H} {a0 : Nat} {a1 : Int32} {a2 : Int32} {a3 : Int32} : evM d 167 [.ref a0, .int a1, .int a2, .int a3] h = ev d 167 0 [some (.ref a0), some (.int a1), some (.int a2), some (.int a3)] [] h := rfl
theorem en168 {d : Nat} {h : mx_H} {a0 : Int32} : evM d 168 [.int a0] h = ev d 168 0 [some (.int a0)] [] h := rfl
theorem en169 {d : Nat} {h : mx_H} {a0 : Nat} {a1 : Int32} {a2 : Int32} : evM d 169 [.ref a0, .int a1, .int a2] h = ev d 169 0 [some (.ref a0), some (.int a1), some (.int a2), none] [] h := rfl
theorem en170 {d : Nat} {h : mx_H} {a0 : Nat} {a1 : Int32} {a2 : Int32} : evM d 170 [.ref a0, .int a1, .int a2] h = ev d 170 0 [some (.ref a0), some (.int a1), some (.int a2), none] [] h := rfl
theorem en171 {d : Nat} {h : mx_H} {a0 : Nat} {a1 : Int32} {a2 : Int32} : evM d 171 [.ref a0, .int a1, .int a2] h = ev d 171 0 [some (.ref a0), some (.int a1), some (.int a2), none, none] [] h := rfl
theorem en172 {d : Nat} {h : mx_H} {a0 : Nat} {a1 : Int32} : evM d 172 [.ref a0, .int a1] h = ev d 172 0 [some (.ref a0), some (.int a1)] [] h := rfl
theorem en173 {d : Nat} {h : mx_H} {a0 : Nat} {a1 : Int32} : evM d 173 [.ref a0, .int a1] h = ev d 173 0 [some (.ref a0), some (.int a1)] [] h := rfl
theorem en174 {d : Nat} {h : mx_H} {a0 : Nat} {a1 : Int32} {a2 : Int32} : evM d 174 [.ref a0, .int a1, .int a2] h = ev d 174 0 [some (.ref a0), some (.int a1), some (.int a2), none, none] [] h := rfl
theorem en175 {d : Nat} {h : mx_H} {a0 : Nat} {a1 : Int32} : evM d 175 [.ref a0, .int a1] h = ev d 175 0 [some (.ref a0), some (.int a1)] [] h := rfl
theorem en176 {d : Nat} {h : mx_H} {a0 : Nat} : evM d 176 [.ref a0] h = ev d 176 0 [some (.ref a0)] [] h := rfl
theorem en177 {d : Nat} {h : mx_H} {a0 : Nat} {a1 : Int32} : evM d 177 [.ref a0, .int a1] h = ev d 177 0 [some (.ref a0), some (.int a1)] [] h := rfl
theorem en178 {d : Nat} {h : mx_H} {a0 : Nat} : evM d 178 [.ref a0] h = ev d 178 0 [some (.ref a0)] [] h := rfl
theorem en179 {d : Nat} {h : mx_H} {a0 : Int32} {a1 : Int32} : evM d 179 [.int a0, .int a1] h = ev d 179 0 [some (.int a0), some (.int a1), none, none] [] h := rfl
theorem en180 {d : Nat} {h : mx_H} {a0 : Nat} {a1 : Int32} {a2 : Int32} : evM d 180 [.ref a0, .int a1, .int a2] h = ev d 180 0 [some (.ref a0), some (.int a1), some (.int a2)] [] h := rfl
theorem en181 {d : Nat} {h : mx_H} {a0 : Nat} {a1 : Int32} {a2 : Int32} : evM d 181 [.ref a0, .int a1, .int a2] h = ev d 181 0 [some (.ref a0), some (.int a1), some (.int a2), none] [] h := rfl
theorem en182 {d : Nat} {h : mx_H} {a0 : Nat} {a1 : Int32} {a2 : Int32} : evM d 182 [.ref a0, .int a1, .int a2] h = ev d 182 0 [some (.ref a0), some (.int a1), some (.int a2)] [] h := rfl
theorem en183 {d : Nat} {h : mx_H} {a0 : Nat} {a1 : Int32} {a2 : Int32} : evM d 183 [.ref a0, .int a1, .int a2] h = ev d 183 0 [some (.ref a0), some (.int a1), some (.int a2), none] [] h := rfl
theorem en184 {d : Nat} {h : mx_H} {a0 : Nat} {a1 : Int32} : evM d 184 [.ref a0, .int a1] h = ev d 184 0 [some (.ref a0), some (.int a1), none] [] h := rfl
theorem en185 {d : Nat} {h : mx_H} {a0 : Nat} : evM d 185 [.ref a0] h = ev d 185 0 [some (.ref a0), none, none, none] [] h := rfl
theorem en186 {d : Nat} {h : mx_H} {a0 : Nat} {a1 : Int32} : evM d 186 [.ref a0, .int a1] h = ev d 186 0 [some (.ref a0), some (.int a1), none] [] h := rfl
theorem en187 {d : Nat} {h : mx_H} {a0 : Nat} : evM d 187 [.ref a0] h = ev d 187 0 [some (.ref a0)] [] h := rfl
theorem en188 {d : Nat} {h : mx_H} {a0 : Nat} {a1 : Int32} : evM d 188 [.ref a0, .int a1] h = ev d 188 0 [some (.ref a0), some (.int a1), none, none] [] h := rfl
theorem en189 {d : Nat} {h : mx_H} {a0 : Int32} {a1 : Int32} : evM d 189 [.int a0, .int a1] h = ev d 189 0 [some (.int a0), some (.int a1)] [] h := rfl
theorem en190 {d : Nat} {h : mx_H} {a0 : Nat} {a1 : Nat} {a2 : Int32} {a3 : Int32} : evM d 190 [.ref a0, .ref a1, .int a2, .int a3] h = ev d 190 0 [some (.ref a0), some (.ref a1), some (.int a2), some (.int a3), none, none, none, none, none] [] h := rfl
theorem en191 {d : Nat} {h : mx_H} {a0 : Nat} : evM d 191 [.ref a0] h = ev d 191 0 [some (.ref a0)] [] h := rfl
theorem en192 {d : Nat} {h : mx_H} {a0 : Nat} : evM d 192 [.ref a0] h = ev d 192 0 [some (.ref a0), none, none, none, none] [] h := rfl
theorem en193 {d : Nat} {h : mx_H} {a0 : Nat} {a1 : Int32} : evM d 193 [.ref a0, .int a1] h = ev d 193 0 [some (.ref a0), some (.int a1), none, none] [] h := rfl
theorem en194 {d : Nat} {h : mx_H} {a0 : Nat} {a1 : Int32} {a2 : Int32} : evM d 194 [.ref a0, .int a1, .int a2] h = ev d 194 0 [some (.ref a0), some (.int a1), some (.int a2), none] [] h := rfl
theorem en195 {d : Nat} {h : mx_H} {a0 : Nat} {a1 : Int32} : evM d 195 [.ref a0, .int a1] h = ev d 195 0 [some (.ref a0), some (.int a1), none, none] [] h := rfl
theorem en196 {d : Nat} {h : mx_H} {a0 : Nat} {a1 : Int32} {a2 : Int32} : evM d 196 [.ref a0, .int a1, .int a2] h = ev d 196 0 [some (.ref a0), some (.int a1), some (.int a2)] [] h := rfl
theorem en197 {d : Nat} {h : mx_H} {a0 : Nat} {a1 : Int32} : evM d 197 [.ref a0, .int a1] h = ev d 197 0 [some (.ref a0), some (.int a1), none, none, none, none, none] [] h := rfl
theorem en198 {d : Nat} {h : mx_H} {a0 : Nat} {a1 : Int32} {a2 : Int32} : evM d 198 [.ref a0, .int a1, .int a2] h = ev d 198 0 [some (.ref a0), some (.int a1), some (.int a2), none, none, none] [] h := rfl
theorem en199 {d : Nat} {h : mx_H} {a0 : Nat} {a1 : Int32} {a2 : Int32} : evM d 199 [.ref a0, .int a1, .int a2] h = ev d 199 0 [some (.ref a0), some (.int a1), some (.int a2), none, none, none] [] h := rfl
theorem en200 {d : Nat} {h : mx_H} {a0 : Nat} {a1 : Int32} : evM d 200 [.ref a0, .int a1] h = ev d 200 0 [some (.ref a0), some (.int a1)] [] h := rfl
theorem en201 {d : Nat} {h : mx_H} {a0 : Nat} {a1 : Int32} : evM d 201 [.ref a0, .int a1] h = ev d 201 0 [some (.ref a0), some (.int a1), none] [] h := rfl
theorem en202 {d : Nat} {h : mx_H} {a0 : Nat} {a1 : Int32} {a2 : Int32} : evM d 202 [.ref a0, .int a1, .int a2] h = ev d 202 0 [some (.ref a0), some (.int a1), some (.int a2)] [] h := rfl
theorem en203 {d : Nat} {h : mx_H} {a0 : Nat} : evM d 203 [.ref a0] h = ev d 203 0 [some (.ref a0)] [] h := rfl
theorem en204 {d : Nat} {h : mx_H} {a0 : Nat} {a1 : Int32} : evM d 204 [.ref a0, .int a1] h = ev d 204 0 [some (.ref a0), some (.int a1), none, none, none] [] h := rfl
theorem en205 {d : Nat} {h : mx_H} {a0 : Nat} {a1 : Int32} : evM d 205 [.ref a0, .int a1] h = ev d 205 0 [some (.ref a0), some (.int a1), none] [] h := rfl
theorem en206 {d : Nat} {h : mx_H} {a0 : Nat} : evM d 206 [.ref a0] h = ev d 206 0 [some (.ref a0), none] [] h := rfl
theorem en207 {d : Nat} {h : mx_H} {a0 : Nat} : evM d 207 [.ref a0] h = ev d 207 0 [some (.ref a0)] [] h := rfl
theorem en208 {d : Nat} {h : mx_H} {a0 : Nat} {a1 : Int32} {a2 : Int32} : evM d 208 [.ref a0, .int a1, .int a2] h = ev d 208 0 [some (.ref a0), some (.int a1), some (.int a2)] [] h := rfl
theorem en209 {d : Nat} {h : mx_H} {a0 : Nat} {a1 : Int32} {a2 : Int32} : evM d 209 [.ref a0, .int a1, .int a2] h = ev d 209 0 [some (.ref a0), some (.int a1), some (.int a2)] [] h := rfl
theorem en210 {d : Nat} {h : mx_H} {a0 : Nat} {a1 : Int32} {a2 : Int32} {a3 : Int32} : evM d 210 [.ref a0, .int a1, .int a2, .int a3] h = ev d 210 0 [some (.ref a0), some (.int a1), some (.int a2), some (.int a3), none] [] h := rfl
theorem en211 {d : Nat} {h : mx_H} {a0 : Nat} : evM d 211 [.ref a0] h = ev d 211 0 [some (.ref a0), none, none, none] [] h := rfl
theorem en212 {d : Nat} {h : mx_H} {a0 : Nat} {a1 : Int32} {a2 : Int32} {a3 : Int32} {a4 : Int32} : evM d 212 [.ref a0, .int a1, .int a2, .int a3, .int a4] h = ev d 212 0 [some (.ref a0), some (.int a1), some (.int a2), some (.int a3), some (.int a4), none, none, none, none] [] h := rfl
theorem en213 {d : Nat} {h : mx_H} {a0 : Int32} : evM d 213 [.int a0] h = ev d 213 0 [some (.int a0)] [] h := rfl
theorem en214 {d : Nat} {h : mx_H} {a0 : Nat} {a1 : Int32} {a2 : Int32} : evM d 214 [.ref a0, .int a1, .int a2] h = ev d 214 0 [some (.ref a0), some (.int a1), some (.int a2)] [] h := rfl
theorem en215 {d : Nat} {h : mx_H} {a0 : Nat} {a1 : Int32} {a2 : Int32} {a3 : Int32} : evM d 215 [.ref a0, .int a1, .int a2, .int a3] h = ev d 215 0 [some (.ref a0), some (.int a1), some (.int a2), some (.int a3), none] [] h := rfl
theorem en216 {d : Nat} {h : mx_H} {a0 : Nat} {a1 : Int32} {a2 : Int32} {a3 : Int32} : evM d 216 [.ref a0, .int a1, .int a2, .int a3] h = ev d 216 0 [some (.ref a0), some (.int a1), some (.int a2), some (.int a3)] [] h := rfl
theorem en217 {d : Nat} {h : mx_H} {a0 : Nat} {a1 : Int32} {a2 : Int32} {a3 : Int32} : evM d 217 [.ref a0, .int a1, .int a2, .int a3] h = ev d 217 0 [some (.ref a0), some (.int a1), some (.int a2), some (.int a3), none] [] h := rfl
theorem en218 {d : Nat} {h : mx_H} {a0 : Nat} {a1 : Int32} {a2 : Int32} {a3 : Int32} : evM d 218 [.ref a0, .int a1, .int a2, .int a3] h = ev d 218 0 [some (.ref a0), some (.int a1), some (.int a2), some (.int a3)] [] h := rfl
theorem en219 {d : Nat} {h : mx_H} {a0 : Nat} {a1 : Int32} {a2 : Int32} : evM d 219 [.ref a0, .int a1, .int a2] h = ev d 219 0 [some (.ref a0), some (.int a1), some (.int a2)] [] h := rfl
theorem en220 {d : Nat} {h : mx_H} {a0 : Nat} {a1 : Int32} {a2 : Int32} : evM d 220 [.ref a0, .int a1, .int a2] h = ev d 220 0 [some (.ref a0), some (.int a1), some (.int a2), none] [] h := rfl
theorem en221 {d : Nat} {h : mx_H} {a0 : Nat} {a1 : Int32} : evM d 221 [.ref a0, .int a1] h = ev d 221 0 [some (.ref a0), some (.int a1)] [] h := rfl
theorem en222 {d : Nat} {h : mx_H} {a0 : Int32} {a1 : Int32} : evM d 222 [.int a0, .int a1] h = ev d 222 0 [some (.int a0), some (.int a1)] [] h := rfl
theorem en223 {d : Nat} {h : mx_H} {a0 : Nat} {a1 : Int32} {a2 : Int32} {a3 : Int32} : evM d 223 [.ref a0, .int a1, .int a2, .int a3] h = ev d 223 0 [some (.ref a0), some (.int a1), some (.int a2), some (.int a3), none, none] [] h := rfl
theorem en224 {d : Nat} {h : mx_H} {a0 : Nat} {a1 : Int32} : evM d 224 [.ref a0, .int a1] h = ev d 224 0 [some (.ref a0), some (.int a1)] [] h := rfl
theorem en225 {d : Nat} {h : mx_H} {a0 : Nat} {a1 : Int32} : evM d 225 [.ref a0, .int a1] h = ev d 225 0 [some (.ref a0), some (.int a1)] [] h := rfl
theorem en226 {d : Nat} {h : mx_H} {a0 : Nat} {a1 : Int32} : evM d 226 [.ref a0, .int a1] h = ev d 226 0 [some (.ref a0), some (.int a1)] [] h := rfl
theorem en227 {d : Nat} {h : mx_H} {a0 : Nat} {a1 : Int32} : evM d 227 [.ref a0, .int a1] h = ev d 227 0 [some (.ref a0), some (.int a1)] [] h := rfl
theorem en228 {d : Nat} {h : mx_H} {a0 : Nat} {a1 : Int32} : evM d 228 [.ref a0, .int a1] h = ev d 228 0 [some (.ref a0), some (.int a1), none] [] h := rfl
theorem en229 {d : Nat} {h : mx_H} {a0 : Nat} {a1 : Int32} : evM d 229 [.ref a0, .int a1] h = ev d 229 0 [some (.ref a0), some (.int a1)] [] h := rfl
theorem en230 {d : Nat} {h : mx_H} {a0 : Nat} {a1 : Int32} : evM d 230 [.ref a0, .int a1] h = ev d 230 0 [some (.ref a0), some (.int a1), none] [] h := rfl
theorem en231 {d : Nat} {h : mx_H} {a0 : Nat} {a1 : Int32} : evM d 231 [.ref a0, .int a1] h = ev d 231 0 [some (.ref a0), some (.int a1)] [] h := rfl
theorem en232 {d : Nat} {h : mx_H} {a0 : Nat} {a1 : Int32} : evM d 232 [.ref a0, .int a1] h = ev d 232 0 [some (.ref a0), some (.int a1), none] [] h := rfl
theorem en233 {d : Nat} {h : mx_H} {a0 : Nat} {a1 : Int32} : evM d 233 [.ref a0, .int a1] h = ev d 233 0 [some (.ref a0), some (.int a1)] [] h := rfl
theorem en234 {d : Nat} {h : mx_H} {a0 : Nat} {a1 : Int32} : evM d 234 [.ref a0, .int a1] h = ev d 234 0 [some (.ref a0), some (.int a1)] [] h := rfl
theorem en235 {d : Nat} {h : mx_H} {a0 : Nat} {a1 : Int32} : evM d 235 [.ref a0, .int a1] h = ev d 235 0 [some (.ref a0), some (.int a1)] [] h := rfl
theorem en236 {d : Nat} {h : mx_H} {a0 : Nat} : evM d 236 [.ref a0] h = ev d 236 0 [some (.ref a0)] [] h := rfl
theorem en237 {d : Nat} {h : mx_H} {a0 : Nat} {a1 : Int32} : evM d 237 [.ref a0, .int a1] h = ev d 237 0 [some (.ref a0), some (.int a1)] [] h := rfl
theorem en238 {d : Nat} {h : mx_H} {a0 : Nat} {a1 : Nat} {a2 : Int32} {a3 : Int32} : evM d 238 [.ref a0, .ref a1, .int a2, .int a3] h = ev d 238 0 [some (.ref a0), some (.ref a1), some (.int a2), some (.int a3), none] [] h := rfl
theorem en239 {d : Nat} {h : mx_H} {a0 : Nat} : evM d 239 [.ref a0] h = ev d 239 0 [some (.ref a0)] [] h := rfl
theorem en240 {d : Nat} {h : mx_H} {a0 : Nat} : evM d 240 [.ref a0] h = ev d 240 0 [some (.ref a0)] [] h := rfl
theorem en241 {d : Nat} {h : mx_H} {a0 : Nat} {a1 : Int32} {a2 : Int32} {a3 : Int32} : evM d 241 [.ref a0, .int a1, .int a2, .int a3] h = ev d 241 0 [some (.ref a0), some (.int a1), some (.int a2), some (.int a3)] [] h := rfl
theorem en242 {d : Nat} {h : mx_H} {a0 : Nat} {a1 : Nat} : evM d 242 [.ref a0, .ref a1] h = ev d 242 0 [some (.ref a0), some (.ref a1), none, none] [] h := rfl
theorem en243 {d : Nat} {h : mx_H} {a0 : Int32} {a1 : Nat} : evM d 243 [.int a0, .ref a1] h = ev d 243 0 [some (.int a0), some (.ref a1)] [] h := rfl
theorem en244 {d : Nat} {h : mx_H} {a0 : Nat} {a1 : Nat} : evM d 244 [.ref a0, .ref a1] h = ev d 244 0 [some (.ref a0), some (.ref a1)] [] h := rfl
theorem en245 {d : Nat} {h : mx_H} {a0 : Nat} {a1 : Nat} : evM d 245 [.ref a0, .ref a1] h = ev d 245 0 [some (.ref a0), some (.ref a1)] [] h := rfl
theorem en246 {d : Nat} {h : mx_H} {a0 : Nat} {a1 : Nat} {a2 : Nat} : evM d 246 [.ref a0, .ref a1, .ref a2] h = ev d 246 0 [some (.ref a0), some (.ref a1), some (.ref a2)] [] h := rfl
theorem en247 {d : Nat} {h : mx_H} {a0 : Nat} {a1 : Nat} {a2 : Nat} : evM d 247 [.ref a0, .ref a1, .ref a2] h = ev d 247 0 [some (.ref a0), some (.ref a1), some (.ref a2)] [] h := rfl
theorem en248 {d : Nat} {h : mx_H} {a0 : Nat} {a1 : Nat} : evM d 248 [.ref a0, .ref a1] h = ev d 248 0 [some (.ref a0), some (.ref a1)] [] h := rfl
theorem en249 {d : Nat} {h : mx_H} {a0 : Nat} {a1 : Nat} {a2 : Nat} : evM d 249 [.ref a0, .ref a1, .ref a2] h = ev d 249 0 [some (.ref a0), some (.ref a1), some (.ref a2)] [] h := rfl
theorem en250 {d : Nat} {h : mx_H} {a0 : Nat} {a1 : Nat} : evM d 250 [.ref a0, .ref a1] h = ev d 250 0 [some (.ref a0), some (.ref a1)] [] h := rfl
theorem en251 {d : Nat} {h : mx_H} {a0 : Nat} : evM d 251 [.ref a0] h = ev d 251 0 [some (.ref a0)] [] h := rfl
theorem en252 {d : Nat} {h : mx_H} {a0 : Nat} {a1 : Nat} {a2 : Int32} {a3 : Int32} : evM d 252 [.ref a0, .ref a1, .int a2, .int a3] h = ev d 252 0 [some (.ref a0), some (.ref a1), some (.int a2), some (.int a3)] [] h := rfl
theorem en253 {d : Nat} {h : mx_H} {a0 : Nat} : evM d 253 [.ref a0] h = ev d 253 0 [some (.ref a0)] [] h := rfl
theorem en254 {d : Nat} {h : mx_H} {a0 : Nat} {a1 : Int32} : evM d 254 [.ref a0, .int a1] h = ev d 254 0 [some (.ref a0), some (.int a1)] [] h := rfl
theorem en255 {d : Nat} {h : mx_H} {a0 : Nat} {a1 : Int32} : evM d 255 [.ref a0, .int a1] h = ev d 255 0 [some (.ref a0), some (.int a1)] [] h := rfl
theorem en256 {d : Nat} {h : mx_H} {a0 : Nat} {a1 : Int32} : evM d 256 [.ref a0, .int a1] h = ev d 256 0 [some (.ref a0), some (.int a1)] [] h := rfl
theorem en257 {d : Nat} {h : mx_H} {a0 : Nat} {a1 : Int32} : evM d 257 [.ref a0, .int a1] h = ev d 257 0 [some (.ref a0), some (.int a1)] [] h := rfl
theorem en258 {d : Nat} {h : mx_H} {a0 : Nat} {a1 : Nat} {a2 : Int32} {a3 : Int32} : evM d 258 [.ref a0, .ref a1, .int a2, .int a3] h = ev d 258 0 [some (.ref a0), some (.ref a1), some (.int a2), some (.int a3)] [] h := rfl
theorem en259 {d : Nat} {h : mx_H} {a0 : Nat} {a1 : Int32} : evM d 259 [.ref a0, .int a1] h = ev d 259 0 [some (.ref a0), some (.int a1)] [] h := rfl
theorem en260 {d : Nat} {h : mx_H} {a0 : Nat} {a1 : Int32} : evM d 260 [.ref a0, .int a1] h = ev d 260 0 [some (.ref a0), some (.int a1), none] [] h := rfl
theorem en261 {d : Nat} {h : mx_H} {a0 : Nat} {a1 : Nat} {a2 : Int32} {a3 : Int32} : evM d 261 [.ref a0, .ref a1, .int a2, .int a3] h = ev d 261 0 [some (.ref a0), some (.ref a1), some (.int a2), some (.int a3)] [] h := rfl
theorem en262 {d : Nat} {h : mx_H} {a0 : Nat} {a1 : Int32} : evM d 262 [.ref a0, .int a1] h = ev d 262 0 [some (.ref a0), some (.int a1)] [] h := rfl
theorem en263 {d : Nat} {h : mx_H} {a0 : Nat} {a1 : Int32} : evM d 263 [.ref a0, .int a1] h = ev d 263 0 [some (.ref a0), some (.int a1), none] [] h := rfl
theorem en264 {d : Nat} {h : mx_H} {a0 : Nat} {a1 : Nat} {a2 : Int32} {a3 : Int32} : evM d 264 [.ref a0, .ref a1, .int a2, .int a3] h = ev d 264 0 [some (.ref a0), some (.ref a1), some (.int a2), some (.int a3)] [] h := rfl
theorem en265 {d : Nat} {h : mx_H} {a0 : Nat} {a1 : Int32} : evM d 265 [.ref a0, .int a1] h = ev d 265 0 [some (.ref a0), some (.int a1)] [] h := rfl
theorem en266 {d : Nat} {h : mx_H} {a0 : Nat} {a1 : Nat} {a2 : Int32} {a3 : Int32} : evM d 266 [.ref a0, .ref a1, .int a2, .int a3] h = ev d 266 0 [some (.ref a0), some (.ref a1), some (.int a2), some (.int a3)] [] h := rfl
theorem en267 {d : Nat} {h : mx_H} {a0 : Nat} {a1 : Int32} : evM d 267 [.ref a0, .int a1] h = ev d 267 0 [some (.ref a0), some (.int a1), none] [] h := rfl
theorem en268 {d : Nat} {h : mx_H} {a0 : Nat} {a1 : Int32} : evM d 268 [.ref a0, .int a1] h = ev d 268 0 [some (.ref a0), some (.int a1)] [] h := rfl
theorem en269 {d : Nat} {h : mx_H} {a0 : Nat} {a1 : Nat} {a2 : Int32} {a3 : Int32} : evM d 269 [.ref a0, .ref a1, .int a2, .int a3] h = ev d 269 0 [some (.ref a0), some (.ref a1), some (.int a2), some (.int a3)] [] h := rfl
theorem en270 {d : Nat} {h : mx_H} {a0 : Nat} {a1 : Int32} : evM d 270 [.ref a0, .int a1] h = ev d 270 0 [some (.ref a0), some (.int a1)] [] h := rfl
theorem en271 {d : Nat} {h : mx_H} {a0 : Nat} {a1 : Int32} : evM d 271 [.ref a0, .int a1] h = ev d 271 0 [some (.ref a0), some (.int a1)] [] h := rfl
theorem en272 {d : Nat} {h : mx_H} {a0 : Nat} {a1 : Int32} : evM d 272 [.ref a0, .int a1] h = ev d 272 0 [some (.ref a0), some (.int a1)] [] h := rfl
theorem en273 {d : Nat} {h : mx_H} {a0 : Nat} : evM d 273 [.ref a0] h = ev d 273 0 [some (.ref a0), none, none, none] [] h := rfl
/-! literals -/
section MXLIT
theorem tn0 : (0 : Int32).toNatClampNeg = 0 := rfl
theorem tn1 : (1 : Int32).toNatClampNeg = 1 := rfl
theorem tn2 : (2 : Int32).toNatClampNeg = 2 := rfl
theorem tn3 : (3 : Int32).toNatClampNeg = 3 := rfl
theorem tn4 : (4 : Int32).toNatClampNeg = 4 := rfl
theorem tn5 : (5 : Int32).toNatClampNeg = 5 := rfl
theorem tn6 : (6 : Int32).toNatClampNeg = 6 := rfl
theorem tn7 : (7 : Int32).toNatClampNeg = 7 := rfl
theorem tn8 : (8 : Int32).toNatClampNeg = 8 := rfl
theorem tn9 : (9 : Int32).toNatClampNeg = 9 := rfl
theorem tn10 : (10 : Int32).toNatClampNeg = 10 := rfl
theorem tn11 : (11 : Int32).toNatClampNeg = 11 := rfl
theorem tn12 : (12 : Int32).toNatClampNeg = 12 := rfl
theorem tn13 : (13 : Int32).toNatClampNeg = 13 := rfl
theorem tn14 : (14 : Int32).toNatClampNeg = 14 := rfl
theorem tn15 : (15 : Int32).toNatClampNeg = 15 := rfl
theorem tn16 : (16 : Int32).toNatClampNeg = 16 := rfl
theorem tn17 : (17 : Int32).toNatClampNeg = 17 := rfl
theorem tn18 : (18 : Int32).toNatClampNeg = 18 := rfl
theorem tn19 : (19 : Int32).toNatClampNeg = 19 := rfl
theorem tn20 : (20 : Int32).toNatClampNeg = 20 := rfl
theorem tn21 : (21 : Int32).toNatClampNeg = 21 := rfl
theorem tn22 : (22 : Int32).toNatClampNeg = 22 := rfl
theorem tn23 : (23 : Int32).toNatClampNeg = 23 := rfl
theorem tn24 : (24 : Int32).toNatClampNeg = 24 := rfl
theorem tn25 : (25 : Int32).toNatClampNeg = 25 := rfl
theorem tn26 : (26 : Int32).toNatClampNeg = 26 := rfl
theorem tn27 : (27 : Int32).toNatClampNeg = 27 := rfl
theorem tn28 : (28 : Int32).toNatClampNeg = 28 := rfl
theorem tn29 : (29 : Int32).toNatClampNeg = 29 := rfl
theorem tn30 : (30 : Int32).toNatClampNeg = 30 := rfl
theorem tn32 : (32 : Int32).toNatClampNeg = 32 := rfl
theorem tn40 : (40 : Int32).toNatClampNeg = 40 := rfl
theorem tn60 : (60 : Int32).toNatClampNeg = 60 := rfl
theorem tn97 : (97 : Int32).toNatClampNeg = 97 := rfl
theorem tn122 : (122 : Int32).toNatClampNeg = 122 := rfl
theorem tn200 : (200 : Int32).toNatClampNeg = 200 := rfl
theorem tn255 : (255 : Int32).toNatClampNeg = 255 := rfl
theorem ib0_3 : mx_inb 0 3 = true := rfl
theorem ib1_3 : mx_inb 1 3 = true := rfl
theorem ib2_3 : mx_inb 2 3 = true := rfl
theorem ib0_4 : mx_inb 0 4 = true := rfl
theorem ib1_4 : mx_inb 1 4 = true := rfl
theorem ib2_4 : mx_inb 2 4 = true := rfl
theorem ib3_4 : mx_inb 3 4 = true := rfl
theorem ib0_5 : mx_inb 0 5 = true := rfl
theorem ib1_5 : mx_inb 1 5 = true := rfl
theorem ib2_5 : mx_inb 2 5 = true := rfl
theorem ib3_5 : mx_inb 3 5 = true := rfl
theorem ib4_5 : mx_inb 4 5 = true := rfl
theorem ib0_6 : mx_inb 0 6 = true := rfl
theorem ib1_6 : mx_inb 1 6 = true := rfl
theorem ib2_6 : mx_inb 2 6 = true := rfl
theorem ib3_6 : mx_inb 3 6 = true := rfl
theorem ib4_6 : mx_inb 4 6 = true := rfl
theorem ib5_6 : mx_inb 5 6 = true := rfl
theorem ib0_7 : mx_inb 0 7 = true := rfl
theorem ib1_7 : mx_inb 1 7 = true := rfl
theorem ib2_7 : mx_inb 2 7 = true := rfl
theorem ib3_7 : mx_inb 3 7 = true := rfl
theorem ib4_7 : mx_inb 4 7 = true := rfl
theorem ib5_7 : mx_inb 5 7 = true := rfl
theorem ib6_7 : mx_inb 6 7 = true := rfl
theorem ib0_8 : mx_inb 0 8 = true := rfl
theorem ib1_8 : mx_inb 1 8 = true := rfl
theorem ib2_8 : mx_inb 2 8 = true := rfl
theorem ib3_8 : mx_inb 3 8 = true := rfl
theorem ib4_8 : mx_inb 4 8 = true := rfl
theorem ib5_8 : mx_inb 5 8 = true := rfl
theorem ib6_8 : mx_inb 6 8 = true := rfl
theorem ib7_8 : mx_inb 7 8 = true := rfl
theorem ib0_10 : mx_inb 0 10 = true := rfl
theorem ib1_10 : mx_inb 1 10 = true := rfl
theorem ib2_10 : mx_inb 2 10 = true := rfl
theorem ib3_10 : mx_inb 3 10 = true := rfl
theorem ib4_10 : mx_inb 4 10 = true := rfl
theorem ib5_10 : mx_inb 5 10 = true := rfl
theorem ib6_10 : mx_inb 6 10 = true := rfl
theorem ib7_10 : mx_inb 7 10 = true := rfl
theorem ib0_21 : mx_inb 0 21 = true := rfl
theorem ib1_21 : mx_inb 1 21 = true := rfl
theorem ib2_21 : mx_inb 2 21 = true := rfl
theorem ib3_21 : mx_inb 3 21 = true := rfl
theorem ib4_21 : mx_inb 4 21 = true := rfl
theorem ib5_21 : mx_inb 5 21 = true := rfl
theorem ib6_21 : mx_inb 6 21 = true := rfl
theorem ib7_21 : mx_inb 7 21 = true := rfl
theorem ib0_24 : mx_inb 0 24 = true := rfl
theorem ib1_24 : mx_inb 1 24 = true := rfl
theorem ib2_24 : mx_inb 2 24 = true := rfl
theorem ib3_24 : mx_inb 3 24 = true := rfl
theorem ib4_24 : mx_inb 4 24 = true := rfl
theorem ib5_24 : mx_inb 5 24 = true := rfl
theorem ib6_24 : mx_inb 6 24 = true := rfl
theorem ib7_24 : mx_inb 7 24 = true := rfl
theorem nz2 : ((2 : Int32) = 0) = False := eq_false (by decide)
theorem nz3 : ((3 : Int32) = 0) = False := eq_false (by decide)
theorem nz4 : ((4 : Int32) = 0) = False := eq_false (by decide)
theorem nz10 : ((10 : Int32) = 0) = False := eq_false (by decide)
theorem nz1000 : ((1000 : Int32) = 0) = False := eq_false (by decide)
end MXLIT
