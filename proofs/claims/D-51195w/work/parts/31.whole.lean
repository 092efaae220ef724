/-! 31.whole (written by gen/mods.py) -/
set_option maxRecDepth 100000
def f_L_law_b3450 (L : Nat) (xs : Nat → Int32) (k28 : PH → Nat → Nat → Nat → Nat → Nat → Int32 → ZR Int32) (h : PH) (a0 : Nat) (a1 : Nat) (a2 : Nat) (a3 : Nat) (a4 : Nat) (v5 : Int32) : ZR Int32 :=
  znm (v5 + (6 : Int32)) fun x101 =>
  k28 h a0 a1 a2 a3 a4 x101
def f_L_law_b373 (L : Nat) (xs : Nat → Int32) (k28 : PH → Nat → Nat → Nat → Nat → Nat → Int32 → ZR Int32) (h : PH) (a0 : Nat) (a1 : Nat) (a2 : Nat) (a3 : Nat) (a4 : Nat) (v5 : Int32) : ZR Int32 :=
  f_L_law_b3450 L xs k28 h a0 a1 a2 a3 a4 v5
def f_L_law_b272 (L : Nat) (xs : Nat → Int32) (k28 : PH → Nat → Nat → Nat → Nat → Nat → Int32 → ZR Int32) (h : PH) (a0 : Nat) (a1 : Nat) (a2 : Nat) (a3 : Nat) (a4 : Nat) (v5 : Int32) : ZR Int32 :=
  znm (v5 + (1 : Int32)) fun x101 =>
  zaX L xs x101 fun x102 =>
  znm (v5 + (2 : Int32)) fun x103 =>
  zaX L xs x103 fun x104 =>
  znm (v5 + (3 : Int32)) fun x105 =>
  zaX L xs x105 fun x106 =>
  znm (v5 + (4 : Int32)) fun x107 =>
  zaX L xs x107 fun x108 =>
  znm (v5 + (5 : Int32)) fun x109 =>
  zaX L xs x109 fun x110 =>
  zcl (f_X0_append h a1 x102 x104 x106 x108 x110 a3) fun x111 h112 =>
  znm (v5 + (1 : Int32)) fun x113 =>
  zaX L xs x113 fun x114 =>
  znm (v5 + (2 : Int32)) fun x115 =>
  zaX L xs x115 fun x116 =>
  znm (v5 + (3 : Int32)) fun x117 =>
  zaX L xs x117 fun x118 =>
  znm (v5 + (4 : Int32)) fun x119 =>
  zaX L xs x119 fun x120 =>
  znm (v5 + (5 : Int32)) fun x121 =>
  zaX L xs x121 fun x122 =>
  zrc h112 a2 3 <| zcl (f_X4_append h112 a2 x114 x116 x118 x120 x122) fun x123 h124 =>
  zrc h124 a2 3 <| zcl (f_X4_thrown h124 a2) fun x125 h126 =>
  if x125 = x111 then
    (if x111 = 0 then
      (zaL h126 a3 3 (0 : Int32) fun x127 =>
      znm x123.toInt64 fun x128 =>
      znm (lg_cmp x127 x128) fun x129 =>
      if x129 = 0 then
        (f_L_law_b373 L xs k28 h126 a0 a1 a2 a3 a4 v5)
      else
        (zret (0 : Int32) h126))
    else
      (f_L_law_b373 L xs k28 h126 a0 a1 a2 a3 a4 v5))
  else
    (zret (0 : Int32) h126)
def f_L_law_b429 (L : Nat) (xs : Nat → Int32) (k28 : PH → Nat → Nat → Nat → Nat → Nat → Int32 → ZR Int32) (h : PH) (a0 : Nat) (a1 : Nat) (a2 : Nat) (a3 : Nat) (a4 : Nat) (v5 : Int32) : ZR Int32 :=
  f_L_law_b3450 L xs k28 h a0 a1 a2 a3 a4 v5
def f_L_law_b376 (L : Nat) (xs : Nat → Int32) (k28 : PH → Nat → Nat → Nat → Nat → Nat → Int32 → ZR Int32) (h : PH) (a0 : Nat) (a1 : Nat) (a2 : Nat) (a3 : Nat) (a4 : Nat) (v5 : Int32) : ZR Int32 :=
  znm (v5 + (1 : Int32)) fun x101 =>
  zaX L xs x101 fun x102 =>
  zcl (f_X0_truncate h a1 x102 a3) fun x103 h104 =>
  znm (v5 + (1 : Int32)) fun x105 =>
  zaX L xs x105 fun x106 =>
  zrc h104 a2 3 <| zcl (f_X4_truncate h104 a2 x106) fun x107 h108 =>
  zrc h108 a2 3 <| zcl (f_X4_thrown h108 a2) fun x109 h110 =>
  if x109 = x103 then
    (if x103 = 0 then
      (zaL h110 a3 3 (0 : Int32) fun x111 =>
      znm x107.toInt64 fun x112 =>
      znm (lg_cmp x111 x112) fun x113 =>
      if x113 = 0 then
        (f_L_law_b429 L xs k28 h110 a0 a1 a2 a3 a4 v5)
      else
        (zret (0 : Int32) h110))
    else
      (f_L_law_b429 L xs k28 h110 a0 a1 a2 a3 a4 v5))
  else
    (zret (0 : Int32) h110)
def f_L_law_b473 (L : Nat) (xs : Nat → Int32) (k28 : PH → Nat → Nat → Nat → Nat → Nat → Int32 → ZR Int32) (h : PH) (a0 : Nat) (a1 : Nat) (a2 : Nat) (a3 : Nat) (a4 : Nat) (v5 : Int32) : ZR Int32 :=
  f_L_law_b3450 L xs k28 h a0 a1 a2 a3 a4 v5
def f_L_law_b432 (L : Nat) (xs : Nat → Int32) (k28 : PH → Nat → Nat → Nat → Nat → Nat → Int32 → ZR Int32) (h : PH) (a0 : Nat) (a1 : Nat) (a2 : Nat) (a3 : Nat) (a4 : Nat) (v5 : Int32) : ZR Int32 :=
  zcl (f_X0_load h a1 a3) fun x101 h102 =>
  zrc h102 a2 3 <| zcl (f_X4_load h102 a2) fun x103 h104 =>
  zrc h104 a2 3 <| zcl (f_X4_thrown h104 a2) fun x105 h106 =>
  if x105 = x101 then
    (if x101 = 0 then
      (zaL h106 a3 3 (0 : Int32) fun x107 =>
      znm x103.toInt64 fun x108 =>
      znm (lg_cmp x107 x108) fun x109 =>
      if x109 = 0 then
        (f_L_law_b473 L xs k28 h106 a0 a1 a2 a3 a4 v5)
      else
        (zret (0 : Int32) h106))
    else
      (f_L_law_b473 L xs k28 h106 a0 a1 a2 a3 a4 v5))
  else
    (zret (0 : Int32) h106)
def f_L_law_b476 (L : Nat) (xs : Nat → Int32) (k28 : PH → Nat → Nat → Nat → Nat → Nat → Int32 → ZR Int32) (h : PH) (a0 : Nat) (a1 : Nat) (a2 : Nat) (a3 : Nat) (a4 : Nat) (v5 : Int32) : ZR Int32 :=
  zrc h a1 0 <| zcl (f_X1_errorCode h a1) fun x101 h102 =>
  zrc h102 a2 3 <| zcl (f_X4_errorCode h102 a2) fun x103 h104 =>
  if x101 = x103 then
    (f_L_law_b3450 L xs k28 h104 a0 a1 a2 a3 a4 v5)
  else
    (zret (0 : Int32) h104)
def f_L_law_b489 (L : Nat) (xs : Nat → Int32) (k28 : PH → Nat → Nat → Nat → Nat → Nat → Int32 → ZR Int32) (h : PH) (a0 : Nat) (a1 : Nat) (a2 : Nat) (a3 : Nat) (a4 : Nat) (v5 : Int32) : ZR Int32 :=
  zrc h a1 0 <| zcl (f_X1_errorPosition h a1) fun x101 h102 =>
  zrc h102 a2 3 <| zcl (f_X4_errorPosition h102 a2) fun x103 h104 =>
  if x101 = x103 then
    (f_L_law_b3450 L xs k28 h104 a0 a1 a2 a3 a4 v5)
  else
    (zret (0 : Int32) h104)
def f_L_law_b543 (L : Nat) (xs : Nat → Int32) (k28 : PH → Nat → Nat → Nat → Nat → Nat → Int32 → ZR Int32) (h : PH) (a0 : Nat) (a1 : Nat) (a2 : Nat) (a3 : Nat) (a4 : Nat) (v5 : Int32) : ZR Int32 :=
  f_L_law_b3450 L xs k28 h a0 a1 a2 a3 a4 v5
def f_L_law_b502 (L : Nat) (xs : Nat → Int32) (k28 : PH → Nat → Nat → Nat → Nat → Nat → Int32 → ZR Int32) (h : PH) (a0 : Nat) (a1 : Nat) (a2 : Nat) (a3 : Nat) (a4 : Nat) (v5 : Int32) : ZR Int32 :=
  zcl (f_X0_find h a1 a3) fun x101 h102 =>
  zrc h102 a2 3 <| zcl (f_X4_find h102 a2) fun x103 h104 =>
  zrc h104 a2 3 <| zcl (f_X4_thrown h104 a2) fun x105 h106 =>
  if x105 = x101 then
    (if x101 = 0 then
      (zaL h106 a3 3 (0 : Int32) fun x107 =>
      znm x103.toInt64 fun x108 =>
      znm (lg_cmp x107 x108) fun x109 =>
      if x109 = 0 then
        (f_L_law_b543 L xs k28 h106 a0 a1 a2 a3 a4 v5)
      else
        (zret (0 : Int32) h106))
    else
      (f_L_law_b543 L xs k28 h106 a0 a1 a2 a3 a4 v5))
  else
    (zret (0 : Int32) h106)
def f_L_law_b546 (L : Nat) (xs : Nat → Int32) (k28 : PH → Nat → Nat → Nat → Nat → Nat → Int32 → ZR Int32) (h : PH) (a0 : Nat) (a1 : Nat) (a2 : Nat) (a3 : Nat) (a4 : Nat) (v5 : Int32) : ZR Int32 :=
  znm (v5 + (1 : Int32)) fun x101 =>
  zaX L xs x101 fun x102 =>
  zrc h a1 0 <| zcl (f_X1_exists h a1 x102) fun x103 h104 =>
  znm (v5 + (1 : Int32)) fun x105 =>
  zaX L xs x105 fun x106 =>
  zrc h104 a2 3 <| zcl (f_X4_exists h104 a2 x106) fun x107 h108 =>
  if x103 = x107 then
    (f_L_law_b3450 L xs k28 h108 a0 a1 a2 a3 a4 v5)
  else
    (zret (0 : Int32) h108)
def f_L_law_b571 (L : Nat) (xs : Nat → Int32) (k28 : PH → Nat → Nat → Nat → Nat → Nat → Int32 → ZR Int32) (h : PH) (a0 : Nat) (a1 : Nat) (a2 : Nat) (a3 : Nat) (a4 : Nat) (v5 : Int32) : ZR Int32 :=
  zrc h a1 0 <| zcl (f_X1_limit h a1) fun x101 h102 =>
  zrc h102 a2 3 <| zcl (f_X4_limit h102 a2) fun x103 h104 =>
  if x101 = x103 then
    (f_L_law_b3450 L xs k28 h104 a0 a1 a2 a3 a4 v5)
  else
    (zret (0 : Int32) h104)
def f_L_law_b637 (L : Nat) (xs : Nat → Int32) (k28 : PH → Nat → Nat → Nat → Nat → Nat → Int32 → ZR Int32) (h : PH) (a0 : Nat) (a1 : Nat) (a2 : Nat) (a3 : Nat) (a4 : Nat) (v5 : Int32) : ZR Int32 :=
  f_L_law_b3450 L xs k28 h a0 a1 a2 a3 a4 v5
def f_L_law_b584 (L : Nat) (xs : Nat → Int32) (k28 : PH → Nat → Nat → Nat → Nat → Nat → Int32 → ZR Int32) (h : PH) (a0 : Nat) (a1 : Nat) (a2 : Nat) (a3 : Nat) (a4 : Nat) (v5 : Int32) : ZR Int32 :=
  znm (v5 + (1 : Int32)) fun x101 =>
  zaX L xs x101 fun x102 =>
  zcl (f_X0_size h a1 x102 a3) fun x103 h104 =>
  znm (v5 + (1 : Int32)) fun x105 =>
  zaX L xs x105 fun x106 =>
  zrc h104 a2 3 <| zcl (f_X4_size h104 a2 x106) fun x107 h108 =>
  zrc h108 a2 3 <| zcl (f_X4_thrown h108 a2) fun x109 h110 =>
  if x109 = x103 then
    (if x103 = 0 then
      (zaL h110 a3 3 (0 : Int32) fun x111 =>
      znm x107.toInt64 fun x112 =>
      znm (lg_cmp x111 x112) fun x113 =>
      if x113 = 0 then
        (f_L_law_b637 L xs k28 h110 a0 a1 a2 a3 a4 v5)
      else
        (zret (0 : Int32) h110))
    else
      (f_L_law_b637 L xs k28 h110 a0 a1 a2 a3 a4 v5))
  else
    (zret (0 : Int32) h110)
def f_L_law_b693 (L : Nat) (xs : Nat → Int32) (k28 : PH → Nat → Nat → Nat → Nat → Nat → Int32 → ZR Int32) (h : PH) (a0 : Nat) (a1 : Nat) (a2 : Nat) (a3 : Nat) (a4 : Nat) (v5 : Int32) : ZR Int32 :=
  f_L_law_b3450 L xs k28 h a0 a1 a2 a3 a4 v5
def f_L_law_b640 (L : Nat) (xs : Nat → Int32) (k28 : PH → Nat → Nat → Nat → Nat → Nat → Int32 → ZR Int32) (h : PH) (a0 : Nat) (a1 : Nat) (a2 : Nat) (a3 : Nat) (a4 : Nat) (v5 : Int32) : ZR Int32 :=
  znm (v5 + (1 : Int32)) fun x101 =>
  zaX L xs x101 fun x102 =>
  zcl (f_X0_height h a1 x102 a3) fun x103 h104 =>
  znm (v5 + (1 : Int32)) fun x105 =>
  zaX L xs x105 fun x106 =>
  zrc h104 a2 3 <| zcl (f_X4_height h104 a2 x106) fun x107 h108 =>
  zrc h108 a2 3 <| zcl (f_X4_thrown h108 a2) fun x109 h110 =>
  if x109 = x103 then
    (if x103 = 0 then
      (zaL h110 a3 3 (0 : Int32) fun x111 =>
      znm x107.toInt64 fun x112 =>
      znm (lg_cmp x111 x112) fun x113 =>
      if x113 = 0 then
        (f_L_law_b693 L xs k28 h110 a0 a1 a2 a3 a4 v5)
      else
        (zret (0 : Int32) h110))
    else
      (f_L_law_b693 L xs k28 h110 a0 a1 a2 a3 a4 v5))
  else
    (zret (0 : Int32) h110)
def f_L_law_b761 (L : Nat) (xs : Nat → Int32) (k28 : PH → Nat → Nat → Nat → Nat → Nat → Int32 → ZR Int32) (h : PH) (a0 : Nat) (a1 : Nat) (a2 : Nat) (a3 : Nat) (a4 : Nat) (v5 : Int32) : ZR Int32 :=
  f_L_law_b3450 L xs k28 h a0 a1 a2 a3 a4 v5
def f_L_law_b696 (L : Nat) (xs : Nat → Int32) (k28 : PH → Nat → Nat → Nat → Nat → Nat → Int32 → ZR Int32) (h : PH) (a0 : Nat) (a1 : Nat) (a2 : Nat) (a3 : Nat) (a4 : Nat) (v5 : Int32) : ZR Int32 :=
  znm (v5 + (1 : Int32)) fun x101 =>
  zaX L xs x101 fun x102 =>
  znm (v5 + (2 : Int32)) fun x103 =>
  zaX L xs x103 fun x104 =>
  zcl (f_X0_keyAt h a1 x102 x104 a3) fun x105 h106 =>
  znm (v5 + (1 : Int32)) fun x107 =>
  zaX L xs x107 fun x108 =>
  znm (v5 + (2 : Int32)) fun x109 =>
  zaX L xs x109 fun x110 =>
  zrc h106 a2 3 <| zcl (f_X4_keyAt h106 a2 x108 x110) fun x111 h112 =>
  zrc h112 a2 3 <| zcl (f_X4_thrown h112 a2) fun x113 h114 =>
  if x113 = x105 then
    (if x105 = 0 then
      (zaL h114 a3 3 (0 : Int32) fun x115 =>
      znm x111.toInt64 fun x116 =>
      znm (lg_cmp x115 x116) fun x117 =>
      if x117 = 0 then
        (f_L_law_b761 L xs k28 h114 a0 a1 a2 a3 a4 v5)
      else
        (zret (0 : Int32) h114))
    else
      (f_L_law_b761 L xs k28 h114 a0 a1 a2 a3 a4 v5))
  else
    (zret (0 : Int32) h114)
def f_L_law_b829 (L : Nat) (xs : Nat → Int32) (k28 : PH → Nat → Nat → Nat → Nat → Nat → Int32 → ZR Int32) (h : PH) (a0 : Nat) (a1 : Nat) (a2 : Nat) (a3 : Nat) (a4 : Nat) (v5 : Int32) : ZR Int32 :=
  f_L_law_b3450 L xs k28 h a0 a1 a2 a3 a4 v5
def f_L_law_b764 (L : Nat) (xs : Nat → Int32) (k28 : PH → Nat → Nat → Nat → Nat → Nat → Int32 → ZR Int32) (h : PH) (a0 : Nat) (a1 : Nat) (a2 : Nat) (a3 : Nat) (a4 : Nat) (v5 : Int32) : ZR Int32 :=
  znm (v5 + (1 : Int32)) fun x101 =>
  zaX L xs x101 fun x102 =>
  znm (v5 + (2 : Int32)) fun x103 =>
  zaX L xs x103 fun x104 =>
  zcl (f_X0_valueAt h a1 x102 x104 a3) fun x105 h106 =>
  znm (v5 + (1 : Int32)) fun x107 =>
  zaX L xs x107 fun x108 =>
  znm (v5 + (2 : Int32)) fun x109 =>
  zaX L xs x109 fun x110 =>
  zrc h106 a2 3 <| zcl (f_X4_valueAt h106 a2 x108 x110) fun x111 h112 =>
  zrc h112 a2 3 <| zcl (f_X4_thrown h112 a2) fun x113 h114 =>
  if x113 = x105 then
    (if x105 = 0 then
      (zaL h114 a3 3 (0 : Int32) fun x115 =>
      znm x111.toInt64 fun x116 =>
      znm (lg_cmp x115 x116) fun x117 =>
      if x117 = 0 then
        (f_L_law_b829 L xs k28 h114 a0 a1 a2 a3 a4 v5)
      else
        (zret (0 : Int32) h114))
    else
      (f_L_law_b829 L xs k28 h114 a0 a1 a2 a3 a4 v5))
  else
    (zret (0 : Int32) h114)
def f_L_law_b897 (L : Nat) (xs : Nat → Int32) (k28 : PH → Nat → Nat → Nat → Nat → Nat → Int32 → ZR Int32) (h : PH) (a0 : Nat) (a1 : Nat) (a2 : Nat) (a3 : Nat) (a4 : Nat) (v5 : Int32) : ZR Int32 :=
  f_L_law_b3450 L xs k28 h a0 a1 a2 a3 a4 v5
def f_L_law_b832 (L : Nat) (xs : Nat → Int32) (k28 : PH → Nat → Nat → Nat → Nat → Nat → Int32 → ZR Int32) (h : PH) (a0 : Nat) (a1 : Nat) (a2 : Nat) (a3 : Nat) (a4 : Nat) (v5 : Int32) : ZR Int32 :=
  znm (v5 + (1 : Int32)) fun x101 =>
  zaX L xs x101 fun x102 =>
  znm (v5 + (2 : Int32)) fun x103 =>
  zaX L xs x103 fun x104 =>
  zcl (f_X0_heightAt h a1 x102 x104 a3) fun x105 h106 =>
  znm (v5 + (1 : Int32)) fun x107 =>
  zaX L xs x107 fun x108 =>
  znm (v5 + (2 : Int32)) fun x109 =>
  zaX L xs x109 fun x110 =>
  zrc h106 a2 3 <| zcl (f_X4_heightAt h106 a2 x108 x110) fun x111 h112 =>
  zrc h112 a2 3 <| zcl (f_X4_thrown h112 a2) fun x113 h114 =>
  if x113 = x105 then
    (if x105 = 0 then
      (zaL h114 a3 3 (0 : Int32) fun x115 =>
      znm x111.toInt64 fun x116 =>
      znm (lg_cmp x115 x116) fun x117 =>
      if x117 = 0 then
        (f_L_law_b897 L xs k28 h114 a0 a1 a2 a3 a4 v5)
      else
        (zret (0 : Int32) h114))
    else
      (f_L_law_b897 L xs k28 h114 a0 a1 a2 a3 a4 v5))
  else
    (zret (0 : Int32) h114)
def f_L_law_b965 (L : Nat) (xs : Nat → Int32) (k28 : PH → Nat → Nat → Nat → Nat → Nat → Int32 → ZR Int32) (h : PH) (a0 : Nat) (a1 : Nat) (a2 : Nat) (a3 : Nat) (a4 : Nat) (v5 : Int32) : ZR Int32 :=
  f_L_law_b3450 L xs k28 h a0 a1 a2 a3 a4 v5
def f_L_law_b900 (L : Nat) (xs : Nat → Int32) (k28 : PH → Nat → Nat → Nat → Nat → Nat → Int32 → ZR Int32) (h : PH) (a0 : Nat) (a1 : Nat) (a2 : Nat) (a3 : Nat) (a4 : Nat) (v5 : Int32) : ZR Int32 :=
  znm (v5 + (1 : Int32)) fun x101 =>
  zaX L xs x101 fun x102 =>
  znm (v5 + (2 : Int32)) fun x103 =>
  zaX L xs x103 fun x104 =>
  zcl (f_X0_value h a1 x102 x104 a3) fun x105 h106 =>
  znm (v5 + (1 : Int32)) fun x107 =>
  zaX L xs x107 fun x108 =>
  znm (v5 + (2 : Int32)) fun x109 =>
  zaX L xs x109 fun x110 =>
  zrc h106 a2 3 <| zcl (f_X4_value h106 a2 x108 x110) fun x111 h112 =>
  zrc h112 a2 3 <| zcl (f_X4_thrown h112 a2) fun x113 h114 =>
  if x113 = x105 then
    (if x105 = 0 then
      (zaL h114 a3 3 (0 : Int32) fun x115 =>
      znm x111.toInt64 fun x116 =>
      znm (lg_cmp x115 x116) fun x117 =>
      if x117 = 0 then
        (f_L_law_b965 L xs k28 h114 a0 a1 a2 a3 a4 v5)
      else
        (zret (0 : Int32) h114))
    else
      (f_L_law_b965 L xs k28 h114 a0 a1 a2 a3 a4 v5))
  else
    (zret (0 : Int32) h114)
def f_L_law_b1033 (L : Nat) (xs : Nat → Int32) (k28 : PH → Nat → Nat → Nat → Nat → Nat → Int32 → ZR Int32) (h : PH) (a0 : Nat) (a1 : Nat) (a2 : Nat) (a3 : Nat) (a4 : Nat) (v5 : Int32) : ZR Int32 :=
  f_L_law_b3450 L xs k28 h a0 a1 a2 a3 a4 v5
def f_L_law_b968 (L : Nat) (xs : Nat → Int32) (k28 : PH → Nat → Nat → Nat → Nat → Nat → Int32 → ZR Int32) (h : PH) (a0 : Nat) (a1 : Nat) (a2 : Nat) (a3 : Nat) (a4 : Nat) (v5 : Int32) : ZR Int32 :=
  znm (v5 + (1 : Int32)) fun x101 =>
  zaX L xs x101 fun x102 =>
  znm (v5 + (2 : Int32)) fun x103 =>
  zaX L xs x103 fun x104 =>
  zcl (f_X0_rank h a1 x102 x104 a3) fun x105 h106 =>
  znm (v5 + (1 : Int32)) fun x107 =>
  zaX L xs x107 fun x108 =>
  znm (v5 + (2 : Int32)) fun x109 =>
  zaX L xs x109 fun x110 =>
  zrc h106 a2 3 <| zcl (f_X4_rank h106 a2 x108 x110) fun x111 h112 =>
  zrc h112 a2 3 <| zcl (f_X4_thrown h112 a2) fun x113 h114 =>
  if x113 = x105 then
    (if x105 = 0 then
      (zaL h114 a3 3 (0 : Int32) fun x115 =>
      znm x111.toInt64 fun x116 =>
      znm (lg_cmp x115 x116) fun x117 =>
      if x117 = 0 then
        (f_L_law_b1033 L xs k28 h114 a0 a1 a2 a3 a4 v5)
      else
        (zret (0 : Int32) h114))
    else
      (f_L_law_b1033 L xs k28 h114 a0 a1 a2 a3 a4 v5))
  else
    (zret (0 : Int32) h114)
def f_L_law_b1101 (L : Nat) (xs : Nat → Int32) (k28 : PH → Nat → Nat → Nat → Nat → Nat → Int32 → ZR Int32) (h : PH) (a0 : Nat) (a1 : Nat) (a2 : Nat) (a3 : Nat) (a4 : Nat) (v5 : Int32) : ZR Int32 :=
  f_L_law_b3450 L xs k28 h a0 a1 a2 a3 a4 v5
def f_L_law_b1036 (L : Nat) (xs : Nat → Int32) (k28 : PH → Nat → Nat → Nat → Nat → Nat → Int32 → ZR Int32) (h : PH) (a0 : Nat) (a1 : Nat) (a2 : Nat) (a3 : Nat) (a4 : Nat) (v5 : Int32) : ZR Int32 :=
  znm (v5 + (1 : Int32)) fun x101 =>
  zaX L xs x101 fun x102 =>
  znm (v5 + (2 : Int32)) fun x103 =>
  zaX L xs x103 fun x104 =>
  zcl (f_X0_nearest h a1 x102 x104 a3) fun x105 h106 =>
  znm (v5 + (1 : Int32)) fun x107 =>
  zaX L xs x107 fun x108 =>
  znm (v5 + (2 : Int32)) fun x109 =>
  zaX L xs x109 fun x110 =>
  zrc h106 a2 3 <| zcl (f_X4_nearest h106 a2 x108 x110) fun x111 h112 =>
  zrc h112 a2 3 <| zcl (f_X4_thrown h112 a2) fun x113 h114 =>
  if x113 = x105 then
    (if x105 = 0 then
      (zaL h114 a3 3 (0 : Int32) fun x115 =>
      znm x111.toInt64 fun x116 =>
      znm (lg_cmp x115 x116) fun x117 =>
      if x117 = 0 then
        (f_L_law_b1101 L xs k28 h114 a0 a1 a2 a3 a4 v5)
      else
        (zret (0 : Int32) h114))
    else
      (f_L_law_b1101 L xs k28 h114 a0 a1 a2 a3 a4 v5))
  else
    (zret (0 : Int32) h114)
def f_L_law_b1181 (L : Nat) (xs : Nat → Int32) (k28 : PH → Nat → Nat → Nat → Nat → Nat → Int32 → ZR Int32) (h : PH) (a0 : Nat) (a1 : Nat) (a2 : Nat) (a3 : Nat) (a4 : Nat) (v5 : Int32) : ZR Int32 :=
  f_L_law_b3450 L xs k28 h a0 a1 a2 a3 a4 v5
def f_L_law_b1104 (L : Nat) (xs : Nat → Int32) (k28 : PH → Nat → Nat → Nat → Nat → Nat → Int32 → ZR Int32) (h : PH) (a0 : Nat) (a1 : Nat) (a2 : Nat) (a3 : Nat) (a4 : Nat) (v5 : Int32) : ZR Int32 :=
  znm (v5 + (1 : Int32)) fun x101 =>
  zaX L xs x101 fun x102 =>
  znm (v5 + (2 : Int32)) fun x103 =>
  zaX L xs x103 fun x104 =>
  znm (v5 + (3 : Int32)) fun x105 =>
  zaX L xs x105 fun x106 =>
  zcl (f_X0_rangeSum h a1 x102 x104 x106 a3) fun x107 h108 =>
  znm (v5 + (1 : Int32)) fun x109 =>
  zaX L xs x109 fun x110 =>
  znm (v5 + (2 : Int32)) fun x111 =>
  zaX L xs x111 fun x112 =>
  znm (v5 + (3 : Int32)) fun x113 =>
  zaX L xs x113 fun x114 =>
  zrc h108 a2 3 <| zcl (f_X4_rangeSum h108 a2 x110 x112 x114) fun x115 h116 =>
  zrc h116 a2 3 <| zcl (f_X4_thrown h116 a2) fun x117 h118 =>
  if x117 = x107 then
    (if x107 = 0 then
      (zaL h118 a3 3 (0 : Int32) fun x119 =>
      znm x115.toInt64 fun x120 =>
      znm (lg_cmp x119 x120) fun x121 =>
      if x121 = 0 then
        (f_L_law_b1181 L xs k28 h118 a0 a1 a2 a3 a4 v5)
      else
        (zret (0 : Int32) h118))
    else
      (f_L_law_b1181 L xs k28 h118 a0 a1 a2 a3 a4 v5))
  else
    (zret (0 : Int32) h118)
def f_L_law_b1249 (L : Nat) (xs : Nat → Int32) (k28 : PH → Nat → Nat → Nat → Nat → Nat → Int32 → ZR Int32) (h : PH) (a0 : Nat) (a1 : Nat) (a2 : Nat) (a3 : Nat) (a4 : Nat) (v5 : Int32) : ZR Int32 :=
  f_L_law_b3450 L xs k28 h a0 a1 a2 a3 a4 v5
def f_L_law_b1184 (L : Nat) (xs : Nat → Int32) (k28 : PH → Nat → Nat → Nat → Nat → Nat → Int32 → ZR Int32) (h : PH) (a0 : Nat) (a1 : Nat) (a2 : Nat) (a3 : Nat) (a4 : Nat) (v5 : Int32) : ZR Int32 :=
  znm (v5 + (1 : Int32)) fun x101 =>
  zaX L xs x101 fun x102 =>
  znm (v5 + (2 : Int32)) fun x103 =>
  zaX L xs x103 fun x104 =>
  zcl (f_X0_rowSize h a1 x102 x104 a3) fun x105 h106 =>
  znm (v5 + (1 : Int32)) fun x107 =>
  zaX L xs x107 fun x108 =>
  znm (v5 + (2 : Int32)) fun x109 =>
  zaX L xs x109 fun x110 =>
  zrc h106 a2 3 <| zcl (f_X4_rowSize h106 a2 x108 x110) fun x111 h112 =>
  zrc h112 a2 3 <| zcl (f_X4_thrown h112 a2) fun x113 h114 =>
  if x113 = x105 then
    (if x105 = 0 then
      (zaL h114 a3 3 (0 : Int32) fun x115 =>
      znm x111.toInt64 fun x116 =>
      znm (lg_cmp x115 x116) fun x117 =>
      if x117 = 0 then
        (f_L_law_b1249 L xs k28 h114 a0 a1 a2 a3 a4 v5)
      else
        (zret (0 : Int32) h114))
    else
      (f_L_law_b1249 L xs k28 h114 a0 a1 a2 a3 a4 v5))
  else
    (zret (0 : Int32) h114)
def f_L_law_b1329 (L : Nat) (xs : Nat → Int32) (k28 : PH → Nat → Nat → Nat → Nat → Nat → Int32 → ZR Int32) (h : PH) (a0 : Nat) (a1 : Nat) (a2 : Nat) (a3 : Nat) (a4 : Nat) (v5 : Int32) : ZR Int32 :=
  f_L_law_b3450 L xs k28 h a0 a1 a2 a3 a4 v5
def f_L_law_b1252 (L : Nat) (xs : Nat → Int32) (k28 : PH → Nat → Nat → Nat → Nat → Nat → Int32 → ZR Int32) (h : PH) (a0 : Nat) (a1 : Nat) (a2 : Nat) (a3 : Nat) (a4 : Nat) (v5 : Int32) : ZR Int32 :=
  znm (v5 + (1 : Int32)) fun x101 =>
  zaX L xs x101 fun x102 =>
  znm (v5 + (2 : Int32)) fun x103 =>
  zaX L xs x103 fun x104 =>
  znm (v5 + (3 : Int32)) fun x105 =>
  zaX L xs x105 fun x106 =>
  zcl (f_X0_linkWidth h a1 x102 x104 x106 a3) fun x107 h108 =>
  znm (v5 + (1 : Int32)) fun x109 =>
  zaX L xs x109 fun x110 =>
  znm (v5 + (2 : Int32)) fun x111 =>
  zaX L xs x111 fun x112 =>
  znm (v5 + (3 : Int32)) fun x113 =>
  zaX L xs x113 fun x114 =>
  zrc h108 a2 3 <| zcl (f_X4_linkWidth h108 a2 x110 x112 x114) fun x115 h116 =>
  zrc h116 a2 3 <| zcl (f_X4_thrown h116 a2) fun x117 h118 =>
  if x117 = x107 then
    (if x107 = 0 then
      (zaL h118 a3 3 (0 : Int32) fun x119 =>
      znm x115.toInt64 fun x120 =>
      znm (lg_cmp x119 x120) fun x121 =>
      if x121 = 0 then
        (f_L_law_b1329 L xs k28 h118 a0 a1 a2 a3 a4 v5)
      else
        (zret (0 : Int32) h118))
    else
      (f_L_law_b1329 L xs k28 h118 a0 a1 a2 a3 a4 v5))
  else
    (zret (0 : Int32) h118)
def f_L_law_b1409 (L : Nat) (xs : Nat → Int32) (k28 : PH → Nat → Nat → Nat → Nat → Nat → Int32 → ZR Int32) (h : PH) (a0 : Nat) (a1 : Nat) (a2 : Nat) (a3 : Nat) (a4 : Nat) (v5 : Int32) : ZR Int32 :=
  f_L_law_b3450 L xs k28 h a0 a1 a2 a3 a4 v5
def f_L_law_b1332 (L : Nat) (xs : Nat → Int32) (k28 : PH → Nat → Nat → Nat → Nat → Nat → Int32 → ZR Int32) (h : PH) (a0 : Nat) (a1 : Nat) (a2 : Nat) (a3 : Nat) (a4 : Nat) (v5 : Int32) : ZR Int32 :=
  znm (v5 + (1 : Int32)) fun x101 =>
  zaX L xs x101 fun x102 =>
  znm (v5 + (2 : Int32)) fun x103 =>
  zaX L xs x103 fun x104 =>
  znm (v5 + (3 : Int32)) fun x105 =>
  zaX L xs x105 fun x106 =>
  zcl (f_X0_linkSum h a1 x102 x104 x106 a3) fun x107 h108 =>
  znm (v5 + (1 : Int32)) fun x109 =>
  zaX L xs x109 fun x110 =>
  znm (v5 + (2 : Int32)) fun x111 =>
  zaX L xs x111 fun x112 =>
  znm (v5 + (3 : Int32)) fun x113 =>
  zaX L xs x113 fun x114 =>
  zrc h108 a2 3 <| zcl (f_X4_linkSum h108 a2 x110 x112 x114) fun x115 h116 =>
  zrc h116 a2 3 <| zcl (f_X4_thrown h116 a2) fun x117 h118 =>
  if x117 = x107 then
    (if x107 = 0 then
      (zaL h118 a3 3 (0 : Int32) fun x119 =>
      znm x115.toInt64 fun x120 =>
      znm (lg_cmp x119 x120) fun x121 =>
      if x121 = 0 then
        (f_L_law_b1409 L xs k28 h118 a0 a1 a2 a3 a4 v5)
      else
        (zret (0 : Int32) h118))
    else
      (f_L_law_b1409 L xs k28 h118 a0 a1 a2 a3 a4 v5))
  else
    (zret (0 : Int32) h118)
def f_L_law_b1489 (L : Nat) (xs : Nat → Int32) (k28 : PH → Nat → Nat → Nat → Nat → Nat → Int32 → ZR Int32) (h : PH) (a0 : Nat) (a1 : Nat) (a2 : Nat) (a3 : Nat) (a4 : Nat) (v5 : Int32) : ZR Int32 :=
  f_L_law_b3450 L xs k28 h a0 a1 a2 a3 a4 v5
def f_L_law_b1412 (L : Nat) (xs : Nat → Int32) (k28 : PH → Nat → Nat → Nat → Nat → Nat → Int32 → ZR Int32) (h : PH) (a0 : Nat) (a1 : Nat) (a2 : Nat) (a3 : Nat) (a4 : Nat) (v5 : Int32) : ZR Int32 :=
  znm (v5 + (1 : Int32)) fun x101 =>
  zaX L xs x101 fun x102 =>
  znm (v5 + (2 : Int32)) fun x103 =>
  zaX L xs x103 fun x104 =>
  znm (v5 + (3 : Int32)) fun x105 =>
  zaX L xs x105 fun x106 =>
  zcl (f_X0_gapSize h a1 x102 x104 x106 a3) fun x107 h108 =>
  znm (v5 + (1 : Int32)) fun x109 =>
  zaX L xs x109 fun x110 =>
  znm (v5 + (2 : Int32)) fun x111 =>
  zaX L xs x111 fun x112 =>
  znm (v5 + (3 : Int32)) fun x113 =>
  zaX L xs x113 fun x114 =>
  zrc h108 a2 3 <| zcl (f_X4_gapSize h108 a2 x110 x112 x114) fun x115 h116 =>
  zrc h116 a2 3 <| zcl (f_X4_thrown h116 a2) fun x117 h118 =>
  if x117 = x107 then
    (if x107 = 0 then
      (zaL h118 a3 3 (0 : Int32) fun x119 =>
      znm x115.toInt64 fun x120 =>
      znm (lg_cmp x119 x120) fun x121 =>
      if x121 = 0 then
        (f_L_law_b1489 L xs k28 h118 a0 a1 a2 a3 a4 v5)
      else
        (zret (0 : Int32) h118))
    else
      (f_L_law_b1489 L xs k28 h118 a0 a1 a2 a3 a4 v5))
  else
    (zret (0 : Int32) h118)
def f_L_law_b1545 (L : Nat) (xs : Nat → Int32) (k28 : PH → Nat → Nat → Nat → Nat → Nat → Int32 → ZR Int32) (h : PH) (a0 : Nat) (a1 : Nat) (a2 : Nat) (a3 : Nat) (a4 : Nat) (v5 : Int32) : ZR Int32 :=
  f_L_law_b3450 L xs k28 h a0 a1 a2 a3 a4 v5
def f_L_law_b1492 (L : Nat) (xs : Nat → Int32) (k28 : PH → Nat → Nat → Nat → Nat → Nat → Int32 → ZR Int32) (h : PH) (a0 : Nat) (a1 : Nat) (a2 : Nat) (a3 : Nat) (a4 : Nat) (v5 : Int32) : ZR Int32 :=
  znm (v5 + (1 : Int32)) fun x101 =>
  zaX L xs x101 fun x102 =>
  zcl (f_X0_links h a1 x102 a3) fun x103 h104 =>
  znm (v5 + (1 : Int32)) fun x105 =>
  zaX L xs x105 fun x106 =>
  zrc h104 a2 3 <| zcl (f_X4_links h104 a2 x106) fun x107 h108 =>
  zrc h108 a2 3 <| zcl (f_X4_thrown h108 a2) fun x109 h110 =>
  if x109 = x103 then
    (if x103 = 0 then
      (zaL h110 a3 3 (0 : Int32) fun x111 =>
      znm x107.toInt64 fun x112 =>
      znm (lg_cmp x111 x112) fun x113 =>
      if x113 = 0 then
        (f_L_law_b1545 L xs k28 h110 a0 a1 a2 a3 a4 v5)
      else
        (zret (0 : Int32) h110))
    else
      (f_L_law_b1545 L xs k28 h110 a0 a1 a2 a3 a4 v5))
  else
    (zret (0 : Int32) h110)
def f_L_law_b1613 (L : Nat) (xs : Nat → Int32) (k28 : PH → Nat → Nat → Nat → Nat → Nat → Int32 → ZR Int32) (h : PH) (a0 : Nat) (a1 : Nat) (a2 : Nat) (a3 : Nat) (a4 : Nat) (v5 : Int32) : ZR Int32 :=
  f_L_law_b3450 L xs k28 h a0 a1 a2 a3 a4 v5
def f_L_law_b1548 (L : Nat) (xs : Nat → Int32) (k28 : PH → Nat → Nat → Nat → Nat → Nat → Int32 → ZR Int32) (h : PH) (a0 : Nat) (a1 : Nat) (a2 : Nat) (a3 : Nat) (a4 : Nat) (v5 : Int32) : ZR Int32 :=
  znm (v5 + (1 : Int32)) fun x101 =>
  zaX L xs x101 fun x102 =>
  znm (v5 + (2 : Int32)) fun x103 =>
  zaX L xs x103 fun x104 =>
  zcl (f_X0_steps h a1 x102 x104 a3) fun x105 h106 =>
  znm (v5 + (1 : Int32)) fun x107 =>
  zaX L xs x107 fun x108 =>
  znm (v5 + (2 : Int32)) fun x109 =>
  zaX L xs x109 fun x110 =>
  zrc h106 a2 3 <| zcl (f_X4_steps h106 a2 x108 x110) fun x111 h112 =>
  zrc h112 a2 3 <| zcl (f_X4_thrown h112 a2) fun x113 h114 =>
  if x113 = x105 then
    (if x105 = 0 then
      (zaL h114 a3 3 (0 : Int32) fun x115 =>
      znm x111.toInt64 fun x116 =>
      znm (lg_cmp x115 x116) fun x117 =>
      if x117 = 0 then
        (f_L_law_b1613 L xs k28 h114 a0 a1 a2 a3 a4 v5)
      else
        (zret (0 : Int32) h114))
    else
      (f_L_law_b1613 L xs k28 h114 a0 a1 a2 a3 a4 v5))
  else
    (zret (0 : Int32) h114)
def f_L_law_b1681 (L : Nat) (xs : Nat → Int32) (k28 : PH → Nat → Nat → Nat → Nat → Nat → Int32 → ZR Int32) (h : PH) (a0 : Nat) (a1 : Nat) (a2 : Nat) (a3 : Nat) (a4 : Nat) (v5 : Int32) : ZR Int32 :=
  f_L_law_b3450 L xs k28 h a0 a1 a2 a3 a4 v5
def f_L_law_b1616 (L : Nat) (xs : Nat → Int32) (k28 : PH → Nat → Nat → Nat → Nat → Nat → Int32 → ZR Int32) (h : PH) (a0 : Nat) (a1 : Nat) (a2 : Nat) (a3 : Nat) (a4 : Nat) (v5 : Int32) : ZR Int32 :=
  znm (v5 + (1 : Int32)) fun x101 =>
  zaX L xs x101 fun x102 =>
  znm (v5 + (2 : Int32)) fun x103 =>
  zaX L xs x103 fun x104 =>
  zcl (f_X0_looks h a1 x102 x104 a3) fun x105 h106 =>
  znm (v5 + (1 : Int32)) fun x107 =>
  zaX L xs x107 fun x108 =>
  znm (v5 + (2 : Int32)) fun x109 =>
  zaX L xs x109 fun x110 =>
  zrc h106 a2 3 <| zcl (f_X4_looks h106 a2 x108 x110) fun x111 h112 =>
  zrc h112 a2 3 <| zcl (f_X4_thrown h112 a2) fun x113 h114 =>
  if x113 = x105 then
    (if x105 = 0 then
      (zaL h114 a3 3 (0 : Int32) fun x115 =>
      znm x111.toInt64 fun x116 =>
      znm (lg_cmp x115 x116) fun x117 =>
      if x117 = 0 then
        (f_L_law_b1681 L xs k28 h114 a0 a1 a2 a3 a4 v5)
      else
        (zret (0 : Int32) h114))
    else
      (f_L_law_b1681 L xs k28 h114 a0 a1 a2 a3 a4 v5))
  else
    (zret (0 : Int32) h114)
def f_L_law_b1761 (L : Nat) (xs : Nat → Int32) (k28 : PH → Nat → Nat → Nat → Nat → Nat → Int32 → ZR Int32) (h : PH) (a0 : Nat) (a1 : Nat) (a2 : Nat) (a3 : Nat) (a4 : Nat) (v5 : Int32) : ZR Int32 :=
  f_L_law_b3450 L xs k28 h a0 a1 a2 a3 a4 v5
def f_L_law_b1684 (L : Nat) (xs : Nat → Int32) (k28 : PH → Nat → Nat → Nat → Nat → Nat → Int32 → ZR Int32) (h : PH) (a0 : Nat) (a1 : Nat) (a2 : Nat) (a3 : Nat) (a4 : Nat) (v5 : Int32) : ZR Int32 :=
  znm (v5 + (1 : Int32)) fun x101 =>
  zaX L xs x101 fun x102 =>
  znm (v5 + (2 : Int32)) fun x103 =>
  zaX L xs x103 fun x104 =>
  znm (v5 + (3 : Int32)) fun x105 =>
  zaX L xs x105 fun x106 =>
  zcl (f_X0_stepKey h a1 x102 x104 x106 a3) fun x107 h108 =>
  znm (v5 + (1 : Int32)) fun x109 =>
  zaX L xs x109 fun x110 =>
  znm (v5 + (2 : Int32)) fun x111 =>
  zaX L xs x111 fun x112 =>
  znm (v5 + (3 : Int32)) fun x113 =>
  zaX L xs x113 fun x114 =>
  zrc h108 a2 3 <| zcl (f_X4_stepKey h108 a2 x110 x112 x114) fun x115 h116 =>
  zrc h116 a2 3 <| zcl (f_X4_thrown h116 a2) fun x117 h118 =>
  if x117 = x107 then
    (if x107 = 0 then
      (zaL h118 a3 3 (0 : Int32) fun x119 =>
      znm x115.toInt64 fun x120 =>
      znm (lg_cmp x119 x120) fun x121 =>
      if x121 = 0 then
        (f_L_law_b1761 L xs k28 h118 a0 a1 a2 a3 a4 v5)
      else
        (zret (0 : Int32) h118))
    else
      (f_L_law_b1761 L xs k28 h118 a0 a1 a2 a3 a4 v5))
  else
    (zret (0 : Int32) h118)
def f_L_law_b1841 (L : Nat) (xs : Nat → Int32) (k28 : PH → Nat → Nat → Nat → Nat → Nat → Int32 → ZR Int32) (h : PH) (a0 : Nat) (a1 : Nat) (a2 : Nat) (a3 : Nat) (a4 : Nat) (v5 : Int32) : ZR Int32 :=
  f_L_law_b3450 L xs k28 h a0 a1 a2 a3 a4 v5
def f_L_law_b1764 (L : Nat) (xs : Nat → Int32) (k28 : PH → Nat → Nat → Nat → Nat → Nat → Int32 → ZR Int32) (h : PH) (a0 : Nat) (a1 : Nat) (a2 : Nat) (a3 : Nat) (a4 : Nat) (v5 : Int32) : ZR Int32 :=
  znm (v5 + (1 : Int32)) fun x101 =>
  zaX L xs x101 fun x102 =>
  znm (v5 + (2 : Int32)) fun x103 =>
  zaX L xs x103 fun x104 =>
  znm (v5 + (3 : Int32)) fun x105 =>
  zaX L xs x105 fun x106 =>
  zcl (f_X0_stepLevel h a1 x102 x104 x106 a3) fun x107 h108 =>
  znm (v5 + (1 : Int32)) fun x109 =>
  zaX L xs x109 fun x110 =>
  znm (v5 + (2 : Int32)) fun x111 =>
  zaX L xs x111 fun x112 =>
  znm (v5 + (3 : Int32)) fun x113 =>
  zaX L xs x113 fun x114 =>
  zrc h108 a2 3 <| zcl (f_X4_stepLevel h108 a2 x110 x112 x114) fun x115 h116 =>
  zrc h116 a2 3 <| zcl (f_X4_thrown h116 a2) fun x117 h118 =>
  if x117 = x107 then
    (if x107 = 0 then
      (zaL h118 a3 3 (0 : Int32) fun x119 =>
      znm x115.toInt64 fun x120 =>
      znm (lg_cmp x119 x120) fun x121 =>
      if x121 = 0 then
        (f_L_law_b1841 L xs k28 h118 a0 a1 a2 a3 a4 v5)
      else
        (zret (0 : Int32) h118))
    else
      (f_L_law_b1841 L xs k28 h118 a0 a1 a2 a3 a4 v5))
  else
    (zret (0 : Int32) h118)
def f_L_law_b1909 (L : Nat) (xs : Nat → Int32) (k28 : PH → Nat → Nat → Nat → Nat → Nat → Int32 → ZR Int32) (h : PH) (a0 : Nat) (a1 : Nat) (a2 : Nat) (a3 : Nat) (a4 : Nat) (v5 : Int32) : ZR Int32 :=
  f_L_law_b3450 L xs k28 h a0 a1 a2 a3 a4 v5
def f_L_law_b1844 (L : Nat) (xs : Nat → Int32) (k28 : PH → Nat → Nat → Nat → Nat → Nat → Int32 → ZR Int32) (h : PH) (a0 : Nat) (a1 : Nat) (a2 : Nat) (a3 : Nat) (a4 : Nat) (v5 : Int32) : ZR Int32 :=
  znm (v5 + (1 : Int32)) fun x101 =>
  zaX L xs x101 fun x102 =>
  znm (v5 + (2 : Int32)) fun x103 =>
  zaX L xs x103 fun x104 =>
  zcl (f_X0_stepsTo h a1 x102 x104 a3) fun x105 h106 =>
  znm (v5 + (1 : Int32)) fun x107 =>
  zaX L xs x107 fun x108 =>
  znm (v5 + (2 : Int32)) fun x109 =>
  zaX L xs x109 fun x110 =>
  zrc h106 a2 3 <| zcl (f_X4_stepsTo h106 a2 x108 x110) fun x111 h112 =>
  zrc h112 a2 3 <| zcl (f_X4_thrown h112 a2) fun x113 h114 =>
  if x113 = x105 then
    (if x105 = 0 then
      (zaL h114 a3 3 (0 : Int32) fun x115 =>
      znm x111.toInt64 fun x116 =>
      znm (lg_cmp x115 x116) fun x117 =>
      if x117 = 0 then
        (f_L_law_b1909 L xs k28 h114 a0 a1 a2 a3 a4 v5)
      else
        (zret (0 : Int32) h114))
    else
      (f_L_law_b1909 L xs k28 h114 a0 a1 a2 a3 a4 v5))
  else
    (zret (0 : Int32) h114)
def f_L_law_b1965 (L : Nat) (xs : Nat → Int32) (k28 : PH → Nat → Nat → Nat → Nat → Nat → Int32 → ZR Int32) (h : PH) (a0 : Nat) (a1 : Nat) (a2 : Nat) (a3 : Nat) (a4 : Nat) (v5 : Int32) : ZR Int32 :=
  f_L_law_b3450 L xs k28 h a0 a1 a2 a3 a4 v5
def f_L_law_b1912 (L : Nat) (xs : Nat → Int32) (k28 : PH → Nat → Nat → Nat → Nat → Nat → Int32 → ZR Int32) (h : PH) (a0 : Nat) (a1 : Nat) (a2 : Nat) (a3 : Nat) (a4 : Nat) (v5 : Int32) : ZR Int32 :=
  znm (v5 + (1 : Int32)) fun x101 =>
  zaX L xs x101 fun x102 =>
  zcl (f_X0_farthest h a1 x102 a3) fun x103 h104 =>
  znm (v5 + (1 : Int32)) fun x105 =>
  zaX L xs x105 fun x106 =>
  zrc h104 a2 3 <| zcl (f_X4_farthest h104 a2 x106) fun x107 h108 =>
  zrc h108 a2 3 <| zcl (f_X4_thrown h108 a2) fun x109 h110 =>
  if x109 = x103 then
    (if x103 = 0 then
      (zaL h110 a3 3 (0 : Int32) fun x111 =>
      znm x107.toInt64 fun x112 =>
      znm (lg_cmp x111 x112) fun x113 =>
      if x113 = 0 then
        (f_L_law_b1965 L xs k28 h110 a0 a1 a2 a3 a4 v5)
      else
        (zret (0 : Int32) h110))
    else
      (f_L_law_b1965 L xs k28 h110 a0 a1 a2 a3 a4 v5))
  else
    (zret (0 : Int32) h110)
def f_L_law_b2042 (L : Nat) (xs : Nat → Int32) (k28 : PH → Nat → Nat → Nat → Nat → Nat → Int32 → ZR Int32) (h : PH) (a0 : Nat) (a1 : Nat) (a2 : Nat) (a3 : Nat) (a4 : Nat) (v5 : Int32) : ZR Int32 :=
  f_L_law_b3450 L xs k28 h a0 a1 a2 a3 a4 v5
def f_L_law_b1968 (L : Nat) (xs : Nat → Int32) (k28 : PH → Nat → Nat → Nat → Nat → Nat → Int32 → ZR Int32) (h : PH) (a0 : Nat) (a1 : Nat) (a2 : Nat) (a3 : Nat) (a4 : Nat) (v5 : Int32) : ZR Int32 :=
  znm (v5 + (1 : Int32)) fun x101 =>
  zaX L xs x101 fun x102 =>
  zcl (f_X0_meanLooks h a1 x102 a4) fun x103 h104 =>
  znm (v5 + (1 : Int32)) fun x105 =>
  zaX L xs x105 fun x106 =>
  zrc h104 a2 3 <| zcl (f_X4_meanLooks h104 a2 x106) fun x107 h108 =>
  zrc h108 a2 3 <| zcl (f_X4_thrown h108 a2) fun x109 h110 =>
  if x109 = x103 then
    (if x103 = 0 then
      (zaD h110 a4 (0 : Int32) fun x111 =>
      znm (Op.cmpValue (FP.dcmp x111 x107) .l) fun x112 =>
      if x112 = 0 then
        (f_L_law_b2042 L xs k28 h110 a0 a1 a2 a3 a4 v5)
      else
        (zaD h110 a4 (0 : Int32) fun x113 =>
        zaD h110 a4 (0 : Int32) fun x114 =>
        znm (Op.cmpValue (FP.dcmp x113 x114) .l) fun x115 =>
        if x115 = 0 then
          (zret (0 : Int32) h110)
        else
          (znm (Op.cmpValue (FP.dcmp x107 x107) .l) fun x116 =>
          if x116 = 0 then
            (zret (0 : Int32) h110)
          else
            (f_L_law_b2042 L xs k28 h110 a0 a1 a2 a3 a4 v5))))
    else
      (f_L_law_b2042 L xs k28 h110 a0 a1 a2 a3 a4 v5))
  else
    (zret (0 : Int32) h110)
def f_L_law_b2110 (L : Nat) (xs : Nat → Int32) (k28 : PH → Nat → Nat → Nat → Nat → Nat → Int32 → ZR Int32) (h : PH) (a0 : Nat) (a1 : Nat) (a2 : Nat) (a3 : Nat) (a4 : Nat) (v5 : Int32) : ZR Int32 :=
  f_L_law_b3450 L xs k28 h a0 a1 a2 a3 a4 v5
def f_L_law_b2045 (L : Nat) (xs : Nat → Int32) (k28 : PH → Nat → Nat → Nat → Nat → Nat → Int32 → ZR Int32) (h : PH) (a0 : Nat) (a1 : Nat) (a2 : Nat) (a3 : Nat) (a4 : Nat) (v5 : Int32) : ZR Int32 :=
  znm (v5 + (1 : Int32)) fun x101 =>
  zaX L xs x101 fun x102 =>
  znm (v5 + (2 : Int32)) fun x103 =>
  zaX L xs x103 fun x104 =>
  zcl (f_X0_heightIfInserted h a1 x102 x104 a3) fun x105 h106 =>
  znm (v5 + (1 : Int32)) fun x107 =>
  zaX L xs x107 fun x108 =>
  znm (v5 + (2 : Int32)) fun x109 =>
  zaX L xs x109 fun x110 =>
  zrc h106 a2 3 <| zcl (f_X4_heightIfInserted h106 a2 x108 x110) fun x111 h112 =>
  zrc h112 a2 3 <| zcl (f_X4_thrown h112 a2) fun x113 h114 =>
  if x113 = x105 then
    (if x105 = 0 then
      (zaL h114 a3 3 (0 : Int32) fun x115 =>
      znm x111.toInt64 fun x116 =>
      znm (lg_cmp x115 x116) fun x117 =>
      if x117 = 0 then
        (f_L_law_b2110 L xs k28 h114 a0 a1 a2 a3 a4 v5)
      else
        (zret (0 : Int32) h114))
    else
      (f_L_law_b2110 L xs k28 h114 a0 a1 a2 a3 a4 v5))
  else
    (zret (0 : Int32) h114)
def f_L_law_b2178 (L : Nat) (xs : Nat → Int32) (k28 : PH → Nat → Nat → Nat → Nat → Nat → Int32 → ZR Int32) (h : PH) (a0 : Nat) (a1 : Nat) (a2 : Nat) (a3 : Nat) (a4 : Nat) (v5 : Int32) : ZR Int32 :=
  f_L_law_b3450 L xs k28 h a0 a1 a2 a3 a4 v5
def f_L_law_b2113 (L : Nat) (xs : Nat → Int32) (k28 : PH → Nat → Nat → Nat → Nat → Nat → Int32 → ZR Int32) (h : PH) (a0 : Nat) (a1 : Nat) (a2 : Nat) (a3 : Nat) (a4 : Nat) (v5 : Int32) : ZR Int32 :=
  znm (v5 + (1 : Int32)) fun x101 =>
  zaX L xs x101 fun x102 =>
  znm (v5 + (2 : Int32)) fun x103 =>
  zaX L xs x103 fun x104 =>
  zcl (f_X0_repairsIfRemoved h a1 x102 x104 a3) fun x105 h106 =>
  znm (v5 + (1 : Int32)) fun x107 =>
  zaX L xs x107 fun x108 =>
  znm (v5 + (2 : Int32)) fun x109 =>
  zaX L xs x109 fun x110 =>
  zrc h106 a2 3 <| zcl (f_X4_repairsIfRemoved h106 a2 x108 x110) fun x111 h112 =>
  zrc h112 a2 3 <| zcl (f_X4_thrown h112 a2) fun x113 h114 =>
  if x113 = x105 then
    (if x105 = 0 then
      (zaL h114 a3 3 (0 : Int32) fun x115 =>
      znm x111.toInt64 fun x116 =>
      znm (lg_cmp x115 x116) fun x117 =>
      if x117 = 0 then
        (f_L_law_b2178 L xs k28 h114 a0 a1 a2 a3 a4 v5)
      else
        (zret (0 : Int32) h114))
    else
      (f_L_law_b2178 L xs k28 h114 a0 a1 a2 a3 a4 v5))
  else
    (zret (0 : Int32) h114)
def f_L_law_b2234 (L : Nat) (xs : Nat → Int32) (k28 : PH → Nat → Nat → Nat → Nat → Nat → Int32 → ZR Int32) (h : PH) (a0 : Nat) (a1 : Nat) (a2 : Nat) (a3 : Nat) (a4 : Nat) (v5 : Int32) : ZR Int32 :=
  f_L_law_b3450 L xs k28 h a0 a1 a2 a3 a4 v5
def f_L_law_b2181 (L : Nat) (xs : Nat → Int32) (k28 : PH → Nat → Nat → Nat → Nat → Nat → Int32 → ZR Int32) (h : PH) (a0 : Nat) (a1 : Nat) (a2 : Nat) (a3 : Nat) (a4 : Nat) (v5 : Int32) : ZR Int32 :=
  znm (v5 + (1 : Int32)) fun x101 =>
  zaX L xs x101 fun x102 =>
  zcl (f_X0_repairsIfLimit h a1 x102 a3) fun x103 h104 =>
  znm (v5 + (1 : Int32)) fun x105 =>
  zaX L xs x105 fun x106 =>
  zrc h104 a2 3 <| zcl (f_X4_repairsIfLimit h104 a2 x106) fun x107 h108 =>
  zrc h108 a2 3 <| zcl (f_X4_thrown h108 a2) fun x109 h110 =>
  if x109 = x103 then
    (if x103 = 0 then
      (zaL h110 a3 3 (0 : Int32) fun x111 =>
      znm x107.toInt64 fun x112 =>
      znm (lg_cmp x111 x112) fun x113 =>
      if x113 = 0 then
        (f_L_law_b2234 L xs k28 h110 a0 a1 a2 a3 a4 v5)
      else
        (zret (0 : Int32) h110))
    else
      (f_L_law_b2234 L xs k28 h110 a0 a1 a2 a3 a4 v5))
  else
    (zret (0 : Int32) h110)
def f_L_law_b2302 (L : Nat) (xs : Nat → Int32) (k28 : PH → Nat → Nat → Nat → Nat → Nat → Int32 → ZR Int32) (h : PH) (a0 : Nat) (a1 : Nat) (a2 : Nat) (a3 : Nat) (a4 : Nat) (v5 : Int32) : ZR Int32 :=
  f_L_law_b3450 L xs k28 h a0 a1 a2 a3 a4 v5
def f_L_law_b2237 (L : Nat) (xs : Nat → Int32) (k28 : PH → Nat → Nat → Nat → Nat → Nat → Int32 → ZR Int32) (h : PH) (a0 : Nat) (a1 : Nat) (a2 : Nat) (a3 : Nat) (a4 : Nat) (v5 : Int32) : ZR Int32 :=
  znm (v5 + (1 : Int32)) fun x101 =>
  zaX L xs x101 fun x102 =>
  znm (v5 + (2 : Int32)) fun x103 =>
  zaX L xs x103 fun x104 =>
  zcl (f_X0_whyNotJoin h a1 x102 x104 a3) fun x105 h106 =>
  znm (v5 + (1 : Int32)) fun x107 =>
  zaX L xs x107 fun x108 =>
  znm (v5 + (2 : Int32)) fun x109 =>
  zaX L xs x109 fun x110 =>
  zrc h106 a2 3 <| zcl (f_X4_whyNotJoin h106 a2 x108 x110) fun x111 h112 =>
  zrc h112 a2 3 <| zcl (f_X4_thrown h112 a2) fun x113 h114 =>
  if x113 = x105 then
    (if x105 = 0 then
      (zaL h114 a3 3 (0 : Int32) fun x115 =>
      znm x111.toInt64 fun x116 =>
      znm (lg_cmp x115 x116) fun x117 =>
      if x117 = 0 then
        (f_L_law_b2302 L xs k28 h114 a0 a1 a2 a3 a4 v5)
      else
        (zret (0 : Int32) h114))
    else
      (f_L_law_b2302 L xs k28 h114 a0 a1 a2 a3 a4 v5))
  else
    (zret (0 : Int32) h114)
def f_L_law_b2370 (L : Nat) (xs : Nat → Int32) (k28 : PH → Nat → Nat → Nat → Nat → Nat → Int32 → ZR Int32) (h : PH) (a0 : Nat) (a1 : Nat) (a2 : Nat) (a3 : Nat) (a4 : Nat) (v5 : Int32) : ZR Int32 :=
  f_L_law_b3450 L xs k28 h a0 a1 a2 a3 a4 v5
def f_L_law_b2305 (L : Nat) (xs : Nat → Int32) (k28 : PH → Nat → Nat → Nat → Nat → Nat → Int32 → ZR Int32) (h : PH) (a0 : Nat) (a1 : Nat) (a2 : Nat) (a3 : Nat) (a4 : Nat) (v5 : Int32) : ZR Int32 :=
  znm (v5 + (1 : Int32)) fun x101 =>
  zaX L xs x101 fun x102 =>
  znm (v5 + (2 : Int32)) fun x103 =>
  zaX L xs x103 fun x104 =>
  zcl (f_X0_whyNotAbsorb h a1 x102 x104 a3) fun x105 h106 =>
  znm (v5 + (1 : Int32)) fun x107 =>
  zaX L xs x107 fun x108 =>
  znm (v5 + (2 : Int32)) fun x109 =>
  zaX L xs x109 fun x110 =>
  zrc h106 a2 3 <| zcl (f_X4_whyNotAbsorb h106 a2 x108 x110) fun x111 h112 =>
  zrc h112 a2 3 <| zcl (f_X4_thrown h112 a2) fun x113 h114 =>
  if x113 = x105 then
    (if x105 = 0 then
      (zaL h114 a3 3 (0 : Int32) fun x115 =>
      znm x111.toInt64 fun x116 =>
      znm (lg_cmp x115 x116) fun x117 =>
      if x117 = 0 then
        (f_L_law_b2370 L xs k28 h114 a0 a1 a2 a3 a4 v5)
      else
        (zret (0 : Int32) h114))
    else
      (f_L_law_b2370 L xs k28 h114 a0 a1 a2 a3 a4 v5))
  else
    (zret (0 : Int32) h114)
def f_L_law_b2373 (L : Nat) (xs : Nat → Int32) (k28 : PH → Nat → Nat → Nat → Nat → Nat → Int32 → ZR Int32) (h : PH) (a0 : Nat) (a1 : Nat) (a2 : Nat) (a3 : Nat) (a4 : Nat) (v5 : Int32) : ZR Int32 :=
  zrc h a1 0 <| zcl (f_X1_logSize h a1) fun x101 h102 =>
  zrc h102 a2 3 <| zcl (f_X4_logSize h102 a2) fun x103 h104 =>
  if x101 = x103 then
    (f_L_law_b3450 L xs k28 h104 a0 a1 a2 a3 a4 v5)
  else
    (zret (0 : Int32) h104)
def f_L_law_b2439 (L : Nat) (xs : Nat → Int32) (k28 : PH → Nat → Nat → Nat → Nat → Nat → Int32 → ZR Int32) (h : PH) (a0 : Nat) (a1 : Nat) (a2 : Nat) (a3 : Nat) (a4 : Nat) (v5 : Int32) : ZR Int32 :=
  f_L_law_b3450 L xs k28 h a0 a1 a2 a3 a4 v5
def f_L_law_b2386 (L : Nat) (xs : Nat → Int32) (k28 : PH → Nat → Nat → Nat → Nat → Nat → Int32 → ZR Int32) (h : PH) (a0 : Nat) (a1 : Nat) (a2 : Nat) (a3 : Nat) (a4 : Nat) (v5 : Int32) : ZR Int32 :=
  znm (v5 + (1 : Int32)) fun x101 =>
  zaX L xs x101 fun x102 =>
  zcl (f_X0_logKind h a1 x102 a3) fun x103 h104 =>
  znm (v5 + (1 : Int32)) fun x105 =>
  zaX L xs x105 fun x106 =>
  zrc h104 a2 3 <| zcl (f_X4_logKind h104 a2 x106) fun x107 h108 =>
  zrc h108 a2 3 <| zcl (f_X4_thrown h108 a2) fun x109 h110 =>
  if x109 = x103 then
    (if x103 = 0 then
      (zaL h110 a3 3 (0 : Int32) fun x111 =>
      znm x107.toInt64 fun x112 =>
      znm (lg_cmp x111 x112) fun x113 =>
      if x113 = 0 then
        (f_L_law_b2439 L xs k28 h110 a0 a1 a2 a3 a4 v5)
      else
        (zret (0 : Int32) h110))
    else
      (f_L_law_b2439 L xs k28 h110 a0 a1 a2 a3 a4 v5))
  else
    (zret (0 : Int32) h110)
def f_L_law_b2495 (L : Nat) (xs : Nat → Int32) (k28 : PH → Nat → Nat → Nat → Nat → Nat → Int32 → ZR Int32) (h : PH) (a0 : Nat) (a1 : Nat) (a2 : Nat) (a3 : Nat) (a4 : Nat) (v5 : Int32) : ZR Int32 :=
  f_L_law_b3450 L xs k28 h a0 a1 a2 a3 a4 v5
def f_L_law_b2442 (L : Nat) (xs : Nat → Int32) (k28 : PH → Nat → Nat → Nat → Nat → Nat → Int32 → ZR Int32) (h : PH) (a0 : Nat) (a1 : Nat) (a2 : Nat) (a3 : Nat) (a4 : Nat) (v5 : Int32) : ZR Int32 :=
  znm (v5 + (1 : Int32)) fun x101 =>
  zaX L xs x101 fun x102 =>
  zcl (f_X0_logLevel h a1 x102 a3) fun x103 h104 =>
  znm (v5 + (1 : Int32)) fun x105 =>
  zaX L xs x105 fun x106 =>
  zrc h104 a2 3 <| zcl (f_X4_logLevel h104 a2 x106) fun x107 h108 =>
  zrc h108 a2 3 <| zcl (f_X4_thrown h108 a2) fun x109 h110 =>
  if x109 = x103 then
    (if x103 = 0 then
      (zaL h110 a3 3 (0 : Int32) fun x111 =>
      znm x107.toInt64 fun x112 =>
      znm (lg_cmp x111 x112) fun x113 =>
      if x113 = 0 then
        (f_L_law_b2495 L xs k28 h110 a0 a1 a2 a3 a4 v5)
      else
        (zret (0 : Int32) h110))
    else
      (f_L_law_b2495 L xs k28 h110 a0 a1 a2 a3 a4 v5))
  else
    (zret (0 : Int32) h110)
def f_L_law_b2551 (L : Nat) (xs : Nat → Int32) (k28 : PH → Nat → Nat → Nat → Nat → Nat → Int32 → ZR Int32) (h : PH) (a0 : Nat) (a1 : Nat) (a2 : Nat) (a3 : Nat) (a4 : Nat) (v5 : Int32) : ZR Int32 :=
  f_L_law_b3450 L xs k28 h a0 a1 a2 a3 a4 v5
def f_L_law_b2498 (L : Nat) (xs : Nat → Int32) (k28 : PH → Nat → Nat → Nat → Nat → Nat → Int32 → ZR Int32) (h : PH) (a0 : Nat) (a1 : Nat) (a2 : Nat) (a3 : Nat) (a4 : Nat) (v5 : Int32) : ZR Int32 :=
  znm (v5 + (1 : Int32)) fun x101 =>
  zaX L xs x101 fun x102 =>
  zcl (f_X0_logKey h a1 x102 a3) fun x103 h104 =>
  znm (v5 + (1 : Int32)) fun x105 =>
  zaX L xs x105 fun x106 =>
  zrc h104 a2 3 <| zcl (f_X4_logKey h104 a2 x106) fun x107 h108 =>
  zrc h108 a2 3 <| zcl (f_X4_thrown h108 a2) fun x109 h110 =>
  if x109 = x103 then
    (if x103 = 0 then
      (zaL h110 a3 3 (0 : Int32) fun x111 =>
      znm x107.toInt64 fun x112 =>
      znm (lg_cmp x111 x112) fun x113 =>
      if x113 = 0 then
        (f_L_law_b2551 L xs k28 h110 a0 a1 a2 a3 a4 v5)
      else
        (zret (0 : Int32) h110))
    else
      (f_L_law_b2551 L xs k28 h110 a0 a1 a2 a3 a4 v5))
  else
    (zret (0 : Int32) h110)
def f_L_law_b2607 (L : Nat) (xs : Nat → Int32) (k28 : PH → Nat → Nat → Nat → Nat → Nat → Int32 → ZR Int32) (h : PH) (a0 : Nat) (a1 : Nat) (a2 : Nat) (a3 : Nat) (a4 : Nat) (v5 : Int32) : ZR Int32 :=
  f_L_law_b3450 L xs k28 h a0 a1 a2 a3 a4 v5
def f_L_law_b2554 (L : Nat) (xs : Nat → Int32) (k28 : PH → Nat → Nat → Nat → Nat → Nat → Int32 → ZR Int32) (h : PH) (a0 : Nat) (a1 : Nat) (a2 : Nat) (a3 : Nat) (a4 : Nat) (v5 : Int32) : ZR Int32 :=
  znm (v5 + (1 : Int32)) fun x101 =>
  zaX L xs x101 fun x102 =>
  zcl (f_X0_counter h a1 x102 a3) fun x103 h104 =>
  znm (v5 + (1 : Int32)) fun x105 =>
  zaX L xs x105 fun x106 =>
  zrc h104 a2 3 <| zcl (f_X4_counter h104 a2 x106) fun x107 h108 =>
  zrc h108 a2 3 <| zcl (f_X4_thrown h108 a2) fun x109 h110 =>
  if x109 = x103 then
    (if x103 = 0 then
      (zaL h110 a3 3 (0 : Int32) fun x111 =>
      znm x107.toInt64 fun x112 =>
      znm (lg_cmp x111 x112) fun x113 =>
      if x113 = 0 then
        (f_L_law_b2607 L xs k28 h110 a0 a1 a2 a3 a4 v5)
      else
        (zret (0 : Int32) h110))
    else
      (f_L_law_b2607 L xs k28 h110 a0 a1 a2 a3 a4 v5))
  else
    (zret (0 : Int32) h110)
def f_L_law_b2651 (L : Nat) (xs : Nat → Int32) (k28 : PH → Nat → Nat → Nat → Nat → Nat → Int32 → ZR Int32) (h : PH) (a0 : Nat) (a1 : Nat) (a2 : Nat) (a3 : Nat) (a4 : Nat) (v5 : Int32) : ZR Int32 :=
  f_L_law_b3450 L xs k28 h a0 a1 a2 a3 a4 v5
def f_L_law_b2610 (L : Nat) (xs : Nat → Int32) (k28 : PH → Nat → Nat → Nat → Nat → Nat → Int32 → ZR Int32) (h : PH) (a0 : Nat) (a1 : Nat) (a2 : Nat) (a3 : Nat) (a4 : Nat) (v5 : Int32) : ZR Int32 :=
  zcl (f_X0_create h a1 a3) fun x101 h102 =>
  zrc h102 a2 3 <| zcl (f_X4_create h102 a2) fun x103 h104 =>
  zrc h104 a2 3 <| zcl (f_X4_thrown h104 a2) fun x105 h106 =>
  if x105 = x101 then
    (if x101 = 0 then
      (zaL h106 a3 3 (0 : Int32) fun x107 =>
      znm x103.toInt64 fun x108 =>
      znm (lg_cmp x107 x108) fun x109 =>
      if x109 = 0 then
        (f_L_law_b2651 L xs k28 h106 a0 a1 a2 a3 a4 v5)
      else
        (zret (0 : Int32) h106))
    else
      (f_L_law_b2651 L xs k28 h106 a0 a1 a2 a3 a4 v5))
  else
    (zret (0 : Int32) h106)
def f_L_law_b2707 (L : Nat) (xs : Nat → Int32) (k28 : PH → Nat → Nat → Nat → Nat → Nat → Int32 → ZR Int32) (h : PH) (a0 : Nat) (a1 : Nat) (a2 : Nat) (a3 : Nat) (a4 : Nat) (v5 : Int32) : ZR Int32 :=
  f_L_law_b3450 L xs k28 h a0 a1 a2 a3 a4 v5
def f_L_law_b2654 (L : Nat) (xs : Nat → Int32) (k28 : PH → Nat → Nat → Nat → Nat → Nat → Int32 → ZR Int32) (h : PH) (a0 : Nat) (a1 : Nat) (a2 : Nat) (a3 : Nat) (a4 : Nat) (v5 : Int32) : ZR Int32 :=
  znm (v5 + (1 : Int32)) fun x101 =>
  zaX L xs x101 fun x102 =>
  zcl (f_X0_drop h a1 x102 a3) fun x103 h104 =>
  znm (v5 + (1 : Int32)) fun x105 =>
  zaX L xs x105 fun x106 =>
  zrc h104 a2 3 <| zcl (f_X4_drop h104 a2 x106) fun x107 h108 =>
  zrc h108 a2 3 <| zcl (f_X4_thrown h108 a2) fun x109 h110 =>
  if x109 = x103 then
    (if x103 = 0 then
      (zaL h110 a3 3 (0 : Int32) fun x111 =>
      znm x107.toInt64 fun x112 =>
      znm (lg_cmp x111 x112) fun x113 =>
      if x113 = 0 then
        (f_L_law_b2707 L xs k28 h110 a0 a1 a2 a3 a4 v5)
      else
        (zret (0 : Int32) h110))
    else
      (f_L_law_b2707 L xs k28 h110 a0 a1 a2 a3 a4 v5))
  else
    (zret (0 : Int32) h110)
def f_L_law_b2787 (L : Nat) (xs : Nat → Int32) (k28 : PH → Nat → Nat → Nat → Nat → Nat → Int32 → ZR Int32) (h : PH) (a0 : Nat) (a1 : Nat) (a2 : Nat) (a3 : Nat) (a4 : Nat) (v5 : Int32) : ZR Int32 :=
  f_L_law_b3450 L xs k28 h a0 a1 a2 a3 a4 v5
def f_L_law_b2710 (L : Nat) (xs : Nat → Int32) (k28 : PH → Nat → Nat → Nat → Nat → Nat → Int32 → ZR Int32) (h : PH) (a0 : Nat) (a1 : Nat) (a2 : Nat) (a3 : Nat) (a4 : Nat) (v5 : Int32) : ZR Int32 :=
  znm (v5 + (1 : Int32)) fun x101 =>
  zaX L xs x101 fun x102 =>
  znm (v5 + (2 : Int32)) fun x103 =>
  zaX L xs x103 fun x104 =>
  znm (v5 + (3 : Int32)) fun x105 =>
  zaX L xs x105 fun x106 =>
  zcl (f_X0_insert h a1 x102 x104 x106 a3) fun x107 h108 =>
  znm (v5 + (1 : Int32)) fun x109 =>
  zaX L xs x109 fun x110 =>
  znm (v5 + (2 : Int32)) fun x111 =>
  zaX L xs x111 fun x112 =>
  znm (v5 + (3 : Int32)) fun x113 =>
  zaX L xs x113 fun x114 =>
  zrc h108 a2 3 <| zcl (f_X4_insert h108 a2 x110 x112 x114) fun x115 h116 =>
  zrc h116 a2 3 <| zcl (f_X4_thrown h116 a2) fun x117 h118 =>
  if x117 = x107 then
    (if x107 = 0 then
      (zaL h118 a3 3 (0 : Int32) fun x119 =>
      znm x115.toInt64 fun x120 =>
      znm (lg_cmp x119 x120) fun x121 =>
      if x121 = 0 then
        (f_L_law_b2787 L xs k28 h118 a0 a1 a2 a3 a4 v5)
      else
        (zret (0 : Int32) h118))
    else
      (f_L_law_b2787 L xs k28 h118 a0 a1 a2 a3 a4 v5))
  else
    (zret (0 : Int32) h118)
def f_L_law_b2855 (L : Nat) (xs : Nat → Int32) (k28 : PH → Nat → Nat → Nat → Nat → Nat → Int32 → ZR Int32) (h : PH) (a0 : Nat) (a1 : Nat) (a2 : Nat) (a3 : Nat) (a4 : Nat) (v5 : Int32) : ZR Int32 :=
  f_L_law_b3450 L xs k28 h a0 a1 a2 a3 a4 v5
def f_L_law_b2790 (L : Nat) (xs : Nat → Int32) (k28 : PH → Nat → Nat → Nat → Nat → Nat → Int32 → ZR Int32) (h : PH) (a0 : Nat) (a1 : Nat) (a2 : Nat) (a3 : Nat) (a4 : Nat) (v5 : Int32) : ZR Int32 :=
  znm (v5 + (1 : Int32)) fun x101 =>
  zaX L xs x101 fun x102 =>
  znm (v5 + (2 : Int32)) fun x103 =>
  zaX L xs x103 fun x104 =>
  zcl (f_X0_remove h a1 x102 x104 a3) fun x105 h106 =>
  znm (v5 + (1 : Int32)) fun x107 =>
  zaX L xs x107 fun x108 =>
  znm (v5 + (2 : Int32)) fun x109 =>
  zaX L xs x109 fun x110 =>
  zrc h106 a2 3 <| zcl (f_X4_remove h106 a2 x108 x110) fun x111 h112 =>
  zrc h112 a2 3 <| zcl (f_X4_thrown h112 a2) fun x113 h114 =>
  if x113 = x105 then
    (if x105 = 0 then
      (zaL h114 a3 3 (0 : Int32) fun x115 =>
      znm x111.toInt64 fun x116 =>
      znm (lg_cmp x115 x116) fun x117 =>
      if x117 = 0 then
        (f_L_law_b2855 L xs k28 h114 a0 a1 a2 a3 a4 v5)
      else
        (zret (0 : Int32) h114))
    else
      (f_L_law_b2855 L xs k28 h114 a0 a1 a2 a3 a4 v5))
  else
    (zret (0 : Int32) h114)
def f_L_law_b2935 (L : Nat) (xs : Nat → Int32) (k28 : PH → Nat → Nat → Nat → Nat → Nat → Int32 → ZR Int32) (h : PH) (a0 : Nat) (a1 : Nat) (a2 : Nat) (a3 : Nat) (a4 : Nat) (v5 : Int32) : ZR Int32 :=
  f_L_law_b3450 L xs k28 h a0 a1 a2 a3 a4 v5
def f_L_law_b2858 (L : Nat) (xs : Nat → Int32) (k28 : PH → Nat → Nat → Nat → Nat → Nat → Int32 → ZR Int32) (h : PH) (a0 : Nat) (a1 : Nat) (a2 : Nat) (a3 : Nat) (a4 : Nat) (v5 : Int32) : ZR Int32 :=
  znm (v5 + (1 : Int32)) fun x101 =>
  zaX L xs x101 fun x102 =>
  znm (v5 + (2 : Int32)) fun x103 =>
  zaX L xs x103 fun x104 =>
  znm (v5 + (3 : Int32)) fun x105 =>
  zaX L xs x105 fun x106 =>
  zcl (f_X0_setValue h a1 x102 x104 x106 a3) fun x107 h108 =>
  znm (v5 + (1 : Int32)) fun x109 =>
  zaX L xs x109 fun x110 =>
  znm (v5 + (2 : Int32)) fun x111 =>
  zaX L xs x111 fun x112 =>
  znm (v5 + (3 : Int32)) fun x113 =>
  zaX L xs x113 fun x114 =>
  zrc h108 a2 3 <| zcl (f_X4_setValue h108 a2 x110 x112 x114) fun x115 h116 =>
  zrc h116 a2 3 <| zcl (f_X4_thrown h116 a2) fun x117 h118 =>
  if x117 = x107 then
    (if x107 = 0 then
      (zaL h118 a3 3 (0 : Int32) fun x119 =>
      znm x115.toInt64 fun x120 =>
      znm (lg_cmp x119 x120) fun x121 =>
      if x121 = 0 then
        (f_L_law_b2935 L xs k28 h118 a0 a1 a2 a3 a4 v5)
      else
        (zret (0 : Int32) h118))
    else
      (f_L_law_b2935 L xs k28 h118 a0 a1 a2 a3 a4 v5))
  else
    (zret (0 : Int32) h118)
def f_L_law_b3003 (L : Nat) (xs : Nat → Int32) (k28 : PH → Nat → Nat → Nat → Nat → Nat → Int32 → ZR Int32) (h : PH) (a0 : Nat) (a1 : Nat) (a2 : Nat) (a3 : Nat) (a4 : Nat) (v5 : Int32) : ZR Int32 :=
  f_L_law_b3450 L xs k28 h a0 a1 a2 a3 a4 v5
def f_L_law_b2938 (L : Nat) (xs : Nat → Int32) (k28 : PH → Nat → Nat → Nat → Nat → Nat → Int32 → ZR Int32) (h : PH) (a0 : Nat) (a1 : Nat) (a2 : Nat) (a3 : Nat) (a4 : Nat) (v5 : Int32) : ZR Int32 :=
  znm (v5 + (1 : Int32)) fun x101 =>
  zaX L xs x101 fun x102 =>
  znm (v5 + (2 : Int32)) fun x103 =>
  zaX L xs x103 fun x104 =>
  zcl (f_X0_split h a1 x102 x104 a3) fun x105 h106 =>
  znm (v5 + (1 : Int32)) fun x107 =>
  zaX L xs x107 fun x108 =>
  znm (v5 + (2 : Int32)) fun x109 =>
  zaX L xs x109 fun x110 =>
  zrc h106 a2 3 <| zcl (f_X4_split h106 a2 x108 x110) fun x111 h112 =>
  zrc h112 a2 3 <| zcl (f_X4_thrown h112 a2) fun x113 h114 =>
  if x113 = x105 then
    (if x105 = 0 then
      (zaL h114 a3 3 (0 : Int32) fun x115 =>
      znm x111.toInt64 fun x116 =>
      znm (lg_cmp x115 x116) fun x117 =>
      if x117 = 0 then
        (f_L_law_b3003 L xs k28 h114 a0 a1 a2 a3 a4 v5)
      else
        (zret (0 : Int32) h114))
    else
      (f_L_law_b3003 L xs k28 h114 a0 a1 a2 a3 a4 v5))
  else
    (zret (0 : Int32) h114)
def f_L_law_b3083 (L : Nat) (xs : Nat → Int32) (k28 : PH → Nat → Nat → Nat → Nat → Nat → Int32 → ZR Int32) (h : PH) (a0 : Nat) (a1 : Nat) (a2 : Nat) (a3 : Nat) (a4 : Nat) (v5 : Int32) : ZR Int32 :=
  f_L_law_b3450 L xs k28 h a0 a1 a2 a3 a4 v5
def f_L_law_b3006 (L : Nat) (xs : Nat → Int32) (k28 : PH → Nat → Nat → Nat → Nat → Nat → Int32 → ZR Int32) (h : PH) (a0 : Nat) (a1 : Nat) (a2 : Nat) (a3 : Nat) (a4 : Nat) (v5 : Int32) : ZR Int32 :=
  znm (v5 + (1 : Int32)) fun x101 =>
  zaX L xs x101 fun x102 =>
  znm (v5 + (2 : Int32)) fun x103 =>
  zaX L xs x103 fun x104 =>
  znm (v5 + (3 : Int32)) fun x105 =>
  zaX L xs x105 fun x106 =>
  zcl (f_X0_cut h a1 x102 x104 x106 a3) fun x107 h108 =>
  znm (v5 + (1 : Int32)) fun x109 =>
  zaX L xs x109 fun x110 =>
  znm (v5 + (2 : Int32)) fun x111 =>
  zaX L xs x111 fun x112 =>
  znm (v5 + (3 : Int32)) fun x113 =>
  zaX L xs x113 fun x114 =>
  zrc h108 a2 3 <| zcl (f_X4_cut h108 a2 x110 x112 x114) fun x115 h116 =>
  zrc h116 a2 3 <| zcl (f_X4_thrown h116 a2) fun x117 h118 =>
  if x117 = x107 then
    (if x107 = 0 then
      (zaL h118 a3 3 (0 : Int32) fun x119 =>
      znm x115.toInt64 fun x120 =>
      znm (lg_cmp x119 x120) fun x121 =>
      if x121 = 0 then
        (f_L_law_b3083 L xs k28 h118 a0 a1 a2 a3 a4 v5)
      else
        (zret (0 : Int32) h118))
    else
      (f_L_law_b3083 L xs k28 h118 a0 a1 a2 a3 a4 v5))
  else
    (zret (0 : Int32) h118)
def f_L_law_b3151 (L : Nat) (xs : Nat → Int32) (k28 : PH → Nat → Nat → Nat → Nat → Nat → Int32 → ZR Int32) (h : PH) (a0 : Nat) (a1 : Nat) (a2 : Nat) (a3 : Nat) (a4 : Nat) (v5 : Int32) : ZR Int32 :=
  f_L_law_b3450 L xs k28 h a0 a1 a2 a3 a4 v5
def f_L_law_b3086 (L : Nat) (xs : Nat → Int32) (k28 : PH → Nat → Nat → Nat → Nat → Nat → Int32 → ZR Int32) (h : PH) (a0 : Nat) (a1 : Nat) (a2 : Nat) (a3 : Nat) (a4 : Nat) (v5 : Int32) : ZR Int32 :=
  znm (v5 + (1 : Int32)) fun x101 =>
  zaX L xs x101 fun x102 =>
  znm (v5 + (2 : Int32)) fun x103 =>
  zaX L xs x103 fun x104 =>
  zcl (f_X0_join h a1 x102 x104 a3) fun x105 h106 =>
  znm (v5 + (1 : Int32)) fun x107 =>
  zaX L xs x107 fun x108 =>
  znm (v5 + (2 : Int32)) fun x109 =>
  zaX L xs x109 fun x110 =>
  zrc h106 a2 3 <| zcl (f_X4_join h106 a2 x108 x110) fun x111 h112 =>
  zrc h112 a2 3 <| zcl (f_X4_thrown h112 a2) fun x113 h114 =>
  if x113 = x105 then
    (if x105 = 0 then
      (zaL h114 a3 3 (0 : Int32) fun x115 =>
      znm x111.toInt64 fun x116 =>
      znm (lg_cmp x115 x116) fun x117 =>
      if x117 = 0 then
        (f_L_law_b3151 L xs k28 h114 a0 a1 a2 a3 a4 v5)
      else
        (zret (0 : Int32) h114))
    else
      (f_L_law_b3151 L xs k28 h114 a0 a1 a2 a3 a4 v5))
  else
    (zret (0 : Int32) h114)
def f_L_law_b3219 (L : Nat) (xs : Nat → Int32) (k28 : PH → Nat → Nat → Nat → Nat → Nat → Int32 → ZR Int32) (h : PH) (a0 : Nat) (a1 : Nat) (a2 : Nat) (a3 : Nat) (a4 : Nat) (v5 : Int32) : ZR Int32 :=
  f_L_law_b3450 L xs k28 h a0 a1 a2 a3 a4 v5
def f_L_law_b3154 (L : Nat) (xs : Nat → Int32) (k28 : PH → Nat → Nat → Nat → Nat → Nat → Int32 → ZR Int32) (h : PH) (a0 : Nat) (a1 : Nat) (a2 : Nat) (a3 : Nat) (a4 : Nat) (v5 : Int32) : ZR Int32 :=
  znm (v5 + (1 : Int32)) fun x101 =>
  zaX L xs x101 fun x102 =>
  znm (v5 + (2 : Int32)) fun x103 =>
  zaX L xs x103 fun x104 =>
  zcl (f_X0_absorb h a1 x102 x104 a3) fun x105 h106 =>
  znm (v5 + (1 : Int32)) fun x107 =>
  zaX L xs x107 fun x108 =>
  znm (v5 + (2 : Int32)) fun x109 =>
  zaX L xs x109 fun x110 =>
  zrc h106 a2 3 <| zcl (f_X4_absorb h106 a2 x108 x110) fun x111 h112 =>
  zrc h112 a2 3 <| zcl (f_X4_thrown h112 a2) fun x113 h114 =>
  if x113 = x105 then
    (if x105 = 0 then
      (zaL h114 a3 3 (0 : Int32) fun x115 =>
      znm x111.toInt64 fun x116 =>
      znm (lg_cmp x115 x116) fun x117 =>
      if x117 = 0 then
        (f_L_law_b3219 L xs k28 h114 a0 a1 a2 a3 a4 v5)
      else
        (zret (0 : Int32) h114))
    else
      (f_L_law_b3219 L xs k28 h114 a0 a1 a2 a3 a4 v5))
  else
    (zret (0 : Int32) h114)
def f_L_law_b3275 (L : Nat) (xs : Nat → Int32) (k28 : PH → Nat → Nat → Nat → Nat → Nat → Int32 → ZR Int32) (h : PH) (a0 : Nat) (a1 : Nat) (a2 : Nat) (a3 : Nat) (a4 : Nat) (v5 : Int32) : ZR Int32 :=
  f_L_law_b3450 L xs k28 h a0 a1 a2 a3 a4 v5
def f_L_law_b3222 (L : Nat) (xs : Nat → Int32) (k28 : PH → Nat → Nat → Nat → Nat → Nat → Int32 → ZR Int32) (h : PH) (a0 : Nat) (a1 : Nat) (a2 : Nat) (a3 : Nat) (a4 : Nat) (v5 : Int32) : ZR Int32 :=
  znm (v5 + (1 : Int32)) fun x101 =>
  zaX L xs x101 fun x102 =>
  zcl (f_X0_level h a1 x102 a3) fun x103 h104 =>
  znm (v5 + (1 : Int32)) fun x105 =>
  zaX L xs x105 fun x106 =>
  zrc h104 a2 3 <| zcl (f_X4_level h104 a2 x106) fun x107 h108 =>
  zrc h108 a2 3 <| zcl (f_X4_thrown h108 a2) fun x109 h110 =>
  if x109 = x103 then
    (if x103 = 0 then
      (zaL h110 a3 3 (0 : Int32) fun x111 =>
      znm x107.toInt64 fun x112 =>
      znm (lg_cmp x111 x112) fun x113 =>
      if x113 = 0 then
        (f_L_law_b3275 L xs k28 h110 a0 a1 a2 a3 a4 v5)
      else
        (zret (0 : Int32) h110))
    else
      (f_L_law_b3275 L xs k28 h110 a0 a1 a2 a3 a4 v5))
  else
    (zret (0 : Int32) h110)
def f_L_law_b3331 (L : Nat) (xs : Nat → Int32) (k28 : PH → Nat → Nat → Nat → Nat → Nat → Int32 → ZR Int32) (h : PH) (a0 : Nat) (a1 : Nat) (a2 : Nat) (a3 : Nat) (a4 : Nat) (v5 : Int32) : ZR Int32 :=
  f_L_law_b3450 L xs k28 h a0 a1 a2 a3 a4 v5
def f_L_law_b3278 (L : Nat) (xs : Nat → Int32) (k28 : PH → Nat → Nat → Nat → Nat → Nat → Int32 → ZR Int32) (h : PH) (a0 : Nat) (a1 : Nat) (a2 : Nat) (a3 : Nat) (a4 : Nat) (v5 : Int32) : ZR Int32 :=
  znm (v5 + (1 : Int32)) fun x101 =>
  zaX L xs x101 fun x102 =>
  zcl (f_X0_setLimit h a1 x102 a3) fun x103 h104 =>
  znm (v5 + (1 : Int32)) fun x105 =>
  zaX L xs x105 fun x106 =>
  zrc h104 a2 3 <| zcl (f_X4_setLimit h104 a2 x106) fun x107 h108 =>
  zrc h108 a2 3 <| zcl (f_X4_thrown h108 a2) fun x109 h110 =>
  if x109 = x103 then
    (if x103 = 0 then
      (zaL h110 a3 3 (0 : Int32) fun x111 =>
      znm x107.toInt64 fun x112 =>
      znm (lg_cmp x111 x112) fun x113 =>
      if x113 = 0 then
        (f_L_law_b3331 L xs k28 h110 a0 a1 a2 a3 a4 v5)
      else
        (zret (0 : Int32) h110))
    else
      (f_L_law_b3331 L xs k28 h110 a0 a1 a2 a3 a4 v5))
  else
    (zret (0 : Int32) h110)
def f_L_law_b3375 (L : Nat) (xs : Nat → Int32) (k28 : PH → Nat → Nat → Nat → Nat → Nat → Int32 → ZR Int32) (h : PH) (a0 : Nat) (a1 : Nat) (a2 : Nat) (a3 : Nat) (a4 : Nat) (v5 : Int32) : ZR Int32 :=
  f_L_law_b3450 L xs k28 h a0 a1 a2 a3 a4 v5
def f_L_law_b3334 (L : Nat) (xs : Nat → Int32) (k28 : PH → Nat → Nat → Nat → Nat → Nat → Int32 → ZR Int32) (h : PH) (a0 : Nat) (a1 : Nat) (a2 : Nat) (a3 : Nat) (a4 : Nat) (v5 : Int32) : ZR Int32 :=
  zcl (f_X0_undo h a1 a3) fun x101 h102 =>
  zrc h102 a2 3 <| zcl (f_X4_undo h102 a2) fun x103 h104 =>
  zrc h104 a2 3 <| zcl (f_X4_thrown h104 a2) fun x105 h106 =>
  if x105 = x101 then
    (if x101 = 0 then
      (zaL h106 a3 3 (0 : Int32) fun x107 =>
      znm x103.toInt64 fun x108 =>
      znm (lg_cmp x107 x108) fun x109 =>
      if x109 = 0 then
        (f_L_law_b3375 L xs k28 h106 a0 a1 a2 a3 a4 v5)
      else
        (zret (0 : Int32) h106))
    else
      (f_L_law_b3375 L xs k28 h106 a0 a1 a2 a3 a4 v5))
  else
    (zret (0 : Int32) h106)
def f_L_law_b3378 (L : Nat) (xs : Nat → Int32) (k28 : PH → Nat → Nat → Nat → Nat → Nat → Int32 → ZR Int32) (h : PH) (a0 : Nat) (a1 : Nat) (a2 : Nat) (a3 : Nat) (a4 : Nat) (v5 : Int32) : ZR Int32 :=
  znm (v5 + (1 : Int32)) fun x101 =>
  zaX L xs x101 fun x102 =>
  zcl (f_X0_save h a1 x102) fun x103 h104 =>
  znm (v5 + (1 : Int32)) fun x105 =>
  zaX L xs x105 fun x106 =>
  zrc h104 a2 3 <| zcl (f_X4_save h104 a2 x106) fun _ h108 =>
  zrc h108 a2 3 <| zcl (f_X4_thrown h108 a2) fun x109 h110 =>
  if x109 = x103 then
    (f_L_law_b3450 L xs k28 h110 a0 a1 a2 a3 a4 v5)
  else
    (zret (0 : Int32) h110)
def f_L_law_b3414 (L : Nat) (xs : Nat → Int32) (k28 : PH → Nat → Nat → Nat → Nat → Nat → Int32 → ZR Int32) (h : PH) (a0 : Nat) (a1 : Nat) (a2 : Nat) (a3 : Nat) (a4 : Nat) (v5 : Int32) : ZR Int32 :=
  znm (v5 + (1 : Int32)) fun x101 =>
  zaX L xs x101 fun x102 =>
  zcl (f_X0_restore h a1 x102) fun x103 h104 =>
  znm (v5 + (1 : Int32)) fun x105 =>
  zaX L xs x105 fun x106 =>
  zrc h104 a2 3 <| zcl (f_X4_restore h104 a2 x106) fun _ h108 =>
  zrc h108 a2 3 <| zcl (f_X4_thrown h108 a2) fun x109 h110 =>
  if x109 = x103 then
    (f_L_law_b3450 L xs k28 h110 a0 a1 a2 a3 a4 v5)
  else
    (zret (0 : Int32) h110)
def f_L_law_b28 (L : Nat) (xs : Nat → Int32) : Nat → PH → Nat → Nat → Nat → Nat → Nat → Int32 → ZR Int32
  | 0 => fun _ _ _ _ _ _ _ => none
  | n + 1 => fun h a0 a1 a2 a3 a4 v5 =>
    znm (nI L) fun x101 =>
    znm (x101 - (6 : Int32)) fun x102 =>
    if x102 < v5 then
      (zret (1 : Int32) h)
    else
      (zaX L xs v5 fun x103 =>
      znm (x103 &&& (63 : Int32)) fun x104 =>
      if x104.toInt < 0 ∨ 52 < x104.toInt then
        (f_L_law_b3450 L xs (f_L_law_b28 L xs n) h a0 a1 a2 a3 a4 v5)
      else
      (if x104 = 0 then
        (f_L_law_b272 L xs (f_L_law_b28 L xs n) h a0 a1 a2 a3 a4 v5)
      else
      (if x104 = 1 then
        (f_L_law_b376 L xs (f_L_law_b28 L xs n) h a0 a1 a2 a3 a4 v5)
      else
      (if x104 = 2 then
        (f_L_law_b432 L xs (f_L_law_b28 L xs n) h a0 a1 a2 a3 a4 v5)
      else
      (if x104 = 3 then
        (f_L_law_b476 L xs (f_L_law_b28 L xs n) h a0 a1 a2 a3 a4 v5)
      else
      (if x104 = 4 then
        (f_L_law_b489 L xs (f_L_law_b28 L xs n) h a0 a1 a2 a3 a4 v5)
      else
      (if x104 = 5 then
        (f_L_law_b502 L xs (f_L_law_b28 L xs n) h a0 a1 a2 a3 a4 v5)
      else
      (if x104 = 6 then
        (f_L_law_b546 L xs (f_L_law_b28 L xs n) h a0 a1 a2 a3 a4 v5)
      else
      (if x104 = 7 then
        (f_L_law_b571 L xs (f_L_law_b28 L xs n) h a0 a1 a2 a3 a4 v5)
      else
      (if x104 = 8 then
        (f_L_law_b584 L xs (f_L_law_b28 L xs n) h a0 a1 a2 a3 a4 v5)
      else
      (if x104 = 9 then
        (f_L_law_b640 L xs (f_L_law_b28 L xs n) h a0 a1 a2 a3 a4 v5)
      else
      (if x104 = 10 then
        (f_L_law_b696 L xs (f_L_law_b28 L xs n) h a0 a1 a2 a3 a4 v5)
      else
      (if x104 = 11 then
        (f_L_law_b764 L xs (f_L_law_b28 L xs n) h a0 a1 a2 a3 a4 v5)
      else
      (if x104 = 12 then
        (f_L_law_b832 L xs (f_L_law_b28 L xs n) h a0 a1 a2 a3 a4 v5)
      else
      (if x104 = 13 then
        (f_L_law_b900 L xs (f_L_law_b28 L xs n) h a0 a1 a2 a3 a4 v5)
      else
      (if x104 = 14 then
        (f_L_law_b968 L xs (f_L_law_b28 L xs n) h a0 a1 a2 a3 a4 v5)
      else
      (if x104 = 15 then
        (f_L_law_b1036 L xs (f_L_law_b28 L xs n) h a0 a1 a2 a3 a4 v5)
      else
      (if x104 = 16 then
        (f_L_law_b1104 L xs (f_L_law_b28 L xs n) h a0 a1 a2 a3 a4 v5)
      else
      (if x104 = 17 then
        (f_L_law_b1184 L xs (f_L_law_b28 L xs n) h a0 a1 a2 a3 a4 v5)
      else
      (if x104 = 18 then
        (f_L_law_b1252 L xs (f_L_law_b28 L xs n) h a0 a1 a2 a3 a4 v5)
      else
      (if x104 = 19 then
        (f_L_law_b1332 L xs (f_L_law_b28 L xs n) h a0 a1 a2 a3 a4 v5)
      else
      (if x104 = 20 then
        (f_L_law_b1412 L xs (f_L_law_b28 L xs n) h a0 a1 a2 a3 a4 v5)
      else
      (if x104 = 21 then
        (f_L_law_b1492 L xs (f_L_law_b28 L xs n) h a0 a1 a2 a3 a4 v5)
      else
      (if x104 = 22 then
        (f_L_law_b1548 L xs (f_L_law_b28 L xs n) h a0 a1 a2 a3 a4 v5)
      else
      (if x104 = 23 then
        (f_L_law_b1616 L xs (f_L_law_b28 L xs n) h a0 a1 a2 a3 a4 v5)
      else
      (if x104 = 24 then
        (f_L_law_b1684 L xs (f_L_law_b28 L xs n) h a0 a1 a2 a3 a4 v5)
      else
      (if x104 = 25 then
        (f_L_law_b1764 L xs (f_L_law_b28 L xs n) h a0 a1 a2 a3 a4 v5)
      else
      (if x104 = 26 then
        (f_L_law_b1844 L xs (f_L_law_b28 L xs n) h a0 a1 a2 a3 a4 v5)
      else
      (if x104 = 27 then
        (f_L_law_b1912 L xs (f_L_law_b28 L xs n) h a0 a1 a2 a3 a4 v5)
      else
      (if x104 = 28 then
        (f_L_law_b1968 L xs (f_L_law_b28 L xs n) h a0 a1 a2 a3 a4 v5)
      else
      (if x104 = 29 then
        (f_L_law_b2045 L xs (f_L_law_b28 L xs n) h a0 a1 a2 a3 a4 v5)
      else
      (if x104 = 30 then
        (f_L_law_b2113 L xs (f_L_law_b28 L xs n) h a0 a1 a2 a3 a4 v5)
      else
      (if x104 = 31 then
        (f_L_law_b2181 L xs (f_L_law_b28 L xs n) h a0 a1 a2 a3 a4 v5)
      else
      (if x104 = 32 then
        (f_L_law_b2237 L xs (f_L_law_b28 L xs n) h a0 a1 a2 a3 a4 v5)
      else
      (if x104 = 33 then
        (f_L_law_b2305 L xs (f_L_law_b28 L xs n) h a0 a1 a2 a3 a4 v5)
      else
      (if x104 = 34 then
        (f_L_law_b2373 L xs (f_L_law_b28 L xs n) h a0 a1 a2 a3 a4 v5)
      else
      (if x104 = 35 then
        (f_L_law_b2386 L xs (f_L_law_b28 L xs n) h a0 a1 a2 a3 a4 v5)
      else
      (if x104 = 36 then
        (f_L_law_b2442 L xs (f_L_law_b28 L xs n) h a0 a1 a2 a3 a4 v5)
      else
      (if x104 = 37 then
        (f_L_law_b2498 L xs (f_L_law_b28 L xs n) h a0 a1 a2 a3 a4 v5)
      else
      (if x104 = 38 then
        (f_L_law_b2554 L xs (f_L_law_b28 L xs n) h a0 a1 a2 a3 a4 v5)
      else
      (if x104 = 39 then
        (f_L_law_b2610 L xs (f_L_law_b28 L xs n) h a0 a1 a2 a3 a4 v5)
      else
      (if x104 = 40 then
        (f_L_law_b2654 L xs (f_L_law_b28 L xs n) h a0 a1 a2 a3 a4 v5)
      else
      (if x104 = 41 then
        (f_L_law_b2710 L xs (f_L_law_b28 L xs n) h a0 a1 a2 a3 a4 v5)
      else
      (if x104 = 42 then
        (f_L_law_b2790 L xs (f_L_law_b28 L xs n) h a0 a1 a2 a3 a4 v5)
      else
      (if x104 = 43 then
        (f_L_law_b2858 L xs (f_L_law_b28 L xs n) h a0 a1 a2 a3 a4 v5)
      else
      (if x104 = 44 then
        (f_L_law_b2938 L xs (f_L_law_b28 L xs n) h a0 a1 a2 a3 a4 v5)
      else
      (if x104 = 45 then
        (f_L_law_b3006 L xs (f_L_law_b28 L xs n) h a0 a1 a2 a3 a4 v5)
      else
      (if x104 = 46 then
        (f_L_law_b3086 L xs (f_L_law_b28 L xs n) h a0 a1 a2 a3 a4 v5)
      else
      (if x104 = 47 then
        (f_L_law_b3154 L xs (f_L_law_b28 L xs n) h a0 a1 a2 a3 a4 v5)
      else
      (if x104 = 48 then
        (f_L_law_b3222 L xs (f_L_law_b28 L xs n) h a0 a1 a2 a3 a4 v5)
      else
      (if x104 = 49 then
        (f_L_law_b3278 L xs (f_L_law_b28 L xs n) h a0 a1 a2 a3 a4 v5)
      else
      (if x104 = 50 then
        (f_L_law_b3334 L xs (f_L_law_b28 L xs n) h a0 a1 a2 a3 a4 v5)
      else
      (if x104 = 51 then
        (f_L_law_b3378 L xs (f_L_law_b28 L xs n) h a0 a1 a2 a3 a4 v5)
      else
      (if x104 = 52 then
        (f_L_law_b3414 L xs (f_L_law_b28 L xs n) h a0 a1 a2 a3 a4 v5)
      else
      (none)))))))))))))))))))))))))))))))))))))))))))))))))))))))
def f_L_law (L : Nat) (xs : Nat → Int32) (h : PH) (a0 : Nat) : ZR Int32 :=
  zno h 0 7 fun a101 h102 =>
  zcl (f_X1_init h102 a101) fun _ h104 =>
  zno h104 3 31 fun a105 h106 =>
  zcl (f_X4_init h106 a105) fun _ h108 =>
  zna h108 3 (1 : Int32) fun a109 h110 =>
  zna h110 4 (1 : Int32) fun a111 h112 =>
  f_L_law_b28 L xs zFU h112 a0 a101 a105 a109 a111 (0 : Int32)
set_option maxHeartbeats 4000000 in
set_option maxRecDepth 100000 in
theorem m_L_law_b3450 {p : Program} {l : Launch} {e : Env} {s : State} {m : MethodId} {args : Array Value} {below : List Frame} {meth : Method} {c : Code} {D : va_G} {dA : Nat → ClassId} {b0 : Nat} {gs : Nat → Option Nat} (hc : zC D dA b0 gs x.cls cL_law 9 p c s m args meth) (hr : meth.sig.returnType = ret) (hin : meth.name = x.name) {r : Int32} {hh : PH} {mc ms : Nat} {L : Nat} {xs : Nat → Int32} (hl0 : l.stackTraces = false) {Q : State → Prop} (hZ : ∀ (pc : Nat) (ls : Array Slot) (H : Heap) (locs : List Loc), decode cL_law pc = .ok (.ireturn, 1) → zM D dA b0 gs s hh H locs → W p l e ({ frames := 16, cells := mc, slots := ms, locals := 3214 } : Room) s m args below meth c H locs mc ms Q (F0 m pc ls [.int r])) (k28 : PH → Nat → Nat → Nat → Nat → Nat → Int32 → ZR Int32) (hk28 : ∀ (h : PH) (a0 : Nat) (a1 : Nat) (a2 : Nat) (a3 : Nat) (a4 : Nat) (v5 : Int32) (C9 S9 : Nat) (H : Heap) (locs : List Loc) (cells slots : Nat), va_X a0 L xs s s.heap ∧ a0 < b0 → k28 h a0 a1 a2 a3 a4 v5 = some (r, hh, C9, S9) → cells + C9 = mc ∧ slots + S9 = ms → zM D dA b0 gs s h H locs → ∀ ls : Array Slot, lv_has ls 9 [(0, .ref a0), (1, .ref a1), (2, .ref a2), (3, .ref a3), (4, .ref a4), (5, .int v5)] → W p l e ({ frames := 16, cells := mc, slots := ms, locals := 3214 } : Room) s m args below meth c H locs cells slots Q (F0 m 28 ls [])) : ∀ (h : PH) (a0 : Nat) (a1 : Nat) (a2 : Nat) (a3 : Nat) (a4 : Nat) (v5 : Int32) (C9 S9 : Nat) (H : Heap) (locs : List Loc) (cells slots : Nat), va_X a0 L xs s s.heap ∧ a0 < b0 → f_L_law_b3450 L xs k28 h a0 a1 a2 a3 a4 v5 = some (r, hh, C9, S9) → cells + C9 = mc ∧ slots + S9 = ms → zM D dA b0 gs s h H locs → ∀ ls : Array Slot, lv_has ls 9 [(0, .ref a0), (1, .ref a1), (2, .ref a2), (3, .ref a3), (4, .ref a4), (5, .int v5)] → W p l e ({ frames := 16, cells := mc, slots := ms, locals := 3214 } : Room) s m args below meth c H locs cells slots Q (F0 m 3450 ls []) := by
  have hx := hc.x
  have hb := hc.b
  intro h a0 a1 a2 a3 a4 v5 C9 S9 H locs cells slots hX hf hq hn ls hl
  unfold f_L_law_b3450 at hf
  obtain ⟨x101, ex101, hf⟩ := znm_i hf
  refine lv_iinc (v := x101) (lv' := [(5, .int x101), (0, .ref a0), (1, .ref a1), (2, .ref a2), (3, .ref a3), (4, .ref a4)]) hx hb dL_law_3450 hl (k := 5) rfl (by rw [ex101]; rfl) (by decide) rfl (fun ls hl => ?_)
  refine lv_goto (tgt := 28) hx hb dL_law_3453 (by decide) ?_
  exact hk28 h a0 a1 a2 a3 a4 x101 _ _ _ _ _ _ hX hf hq hn _ (lv_sub hl [1, 2, 3, 4, 5, 0] rfl)
set_option maxHeartbeats 4000000 in
set_option maxRecDepth 100000 in
theorem m_L_law_b373 {p : Program} {l : Launch} {e : Env} {s : State} {m : MethodId} {args : Array Value} {below : List Frame} {meth : Method} {c : Code} {D : va_G} {dA : Nat → ClassId} {b0 : Nat} {gs : Nat → Option Nat} (hc : zC D dA b0 gs x.cls cL_law 9 p c s m args meth) (hr : meth.sig.returnType = ret) (hin : meth.name = x.name) {r : Int32} {hh : PH} {mc ms : Nat} {L : Nat} {xs : Nat → Int32} (hl0 : l.stackTraces = false) {Q : State → Prop} (hZ : ∀ (pc : Nat) (ls : Array Slot) (H : Heap) (locs : List Loc), decode cL_law pc = .ok (.ireturn, 1) → zM D dA b0 gs s hh H locs → W p l e ({ frames := 16, cells := mc, slots := ms, locals := 3214 } : Room) s m args below meth c H locs mc ms Q (F0 m pc ls [.int r])) (k28 : PH → Nat → Nat → Nat → Nat → Nat → Int32 → ZR Int32) (hk28 : ∀ (h : PH) (a0 : Nat) (a1 : Nat) (a2 : Nat) (a3 : Nat) (a4 : Nat) (v5 : Int32) (C9 S9 : Nat) (H : Heap) (locs : List Loc) (cells slots : Nat), va_X a0 L xs s s.heap ∧ a0 < b0 → k28 h a0 a1 a2 a3 a4 v5 = some (r, hh, C9, S9) → cells + C9 = mc ∧ slots + S9 = ms → zM D dA b0 gs s h H locs → ∀ ls : Array Slot, lv_has ls 9 [(0, .ref a0), (1, .ref a1), (2, .ref a2), (3, .ref a3), (4, .ref a4), (5, .int v5)] → W p l e ({ frames := 16, cells := mc, slots := ms, locals := 3214 } : Room) s m args below meth c H locs cells slots Q (F0 m 28 ls [])) : ∀ (h : PH) (a0 : Nat) (a1 : Nat) (a2 : Nat) (a3 : Nat) (a4 : Nat) (v5 : Int32) (C9 S9 : Nat) (H : Heap) (locs : List Loc) (cells slots : Nat), va_X a0 L xs s s.heap ∧ a0 < b0 → f_L_law_b373 L xs k28 h a0 a1 a2 a3 a4 v5 = some (r, hh, C9, S9) → cells + C9 = mc ∧ slots + S9 = ms → zM D dA b0 gs s h H locs → ∀ ls : Array Slot, lv_has ls 9 [(0, .ref a0), (1, .ref a1), (2, .ref a2), (3, .ref a3), (4, .ref a4), (5, .int v5)] → W p l e ({ frames := 16, cells := mc, slots := ms, locals := 3214 } : Room) s m args below meth c H locs cells slots Q (F0 m 373 ls []) := by
  have hx := hc.x
  have hb := hc.b
  intro h a0 a1 a2 a3 a4 v5 C9 S9 H locs cells slots hX hf hq hn ls hl
  unfold f_L_law_b373 at hf
  refine lv_goto (tgt := 3450) hx hb dL_law_373 (by decide) ?_
  exact m_L_law_b3450 hc hr hin hl0 hZ k28 hk28 h a0 a1 a2 a3 a4 v5 _ _ _ _ _ _ hX hf hq hn _ (lv_sub hl [0, 1, 2, 3, 4, 5] rfl)
set_option maxHeartbeats 4000000 in
set_option maxRecDepth 100000 in
theorem m_L_law_b272 {p : Program} {l : Launch} {e : Env} {s : State} {m : MethodId} {args : Array Value} {below : List Frame} {meth : Method} {c : Code} {D : va_G} {dA : Nat → ClassId} {b0 : Nat} {gs : Nat → Option Nat} (hc : zC D dA b0 gs x.cls cL_law 9 p c s m args meth) (hr : meth.sig.returnType = ret) (hin : meth.name = x.name) {r : Int32} {hh : PH} {mc ms : Nat} {L : Nat} {xs : Nat → Int32} (hl0 : l.stackTraces = false) {Q : State → Prop} (hZ : ∀ (pc : Nat) (ls : Array Slot) (H : Heap) (locs : List Loc), decode cL_law pc = .ok (.ireturn, 1) → zM D dA b0 gs s hh H locs → W p l e ({ frames := 16, cells := mc, slots := ms, locals := 3214 } : Room) s m args below meth c H locs mc ms Q (F0 m pc ls [.int r])) (k28 : PH → Nat → Nat → Nat → Nat → Nat → Int32 → ZR Int32) (hk28 : ∀ (h : PH) (a0 : Nat) (a1 : Nat) (a2 : Nat) (a3 : Nat) (a4 : Nat) (v5 : Int32) (C9 S9 : Nat) (H : Heap) (locs : List Loc) (cells slots : Nat), va_X a0 L xs s s.heap ∧ a0 < b0 → k28 h a0 a1 a2 a3 a4 v5 = some (r, hh, C9, S9) → cells + C9 = mc ∧ slots + S9 = ms → zM D dA b0 gs s h H locs → ∀ ls : Array Slot, lv_has ls 9 [(0, .ref a0), (1, .ref a1), (2, .ref a2), (3, .ref a3), (4, .ref a4), (5, .int v5)] → W p l e ({ frames := 16, cells := mc, slots := ms, locals := 3214 } : Room) s m args below meth c H locs cells slots Q (F0 m 28 ls [])) : ∀ (h : PH) (a0 : Nat) (a1 : Nat) (a2 : Nat) (a3 : Nat) (a4 : Nat) (v5 : Int32) (C9 S9 : Nat) (H : Heap) (locs : List Loc) (cells slots : Nat), va_X a0 L xs s s.heap ∧ a0 < b0 → f_L_law_b272 L xs k28 h a0 a1 a2 a3 a4 v5 = some (r, hh, C9, S9) → cells + C9 = mc ∧ slots + S9 = ms → zM D dA b0 gs s h H locs → ∀ ls : Array Slot, lv_has ls 9 [(0, .ref a0), (1, .ref a1), (2, .ref a2), (3, .ref a3), (4, .ref a4), (5, .int v5)] → W p l e ({ frames := 16, cells := mc, slots := ms, locals := 3214 } : Room) s m args below meth c H locs cells slots Q (F0 m 272 ls []) := by
  have hx := hc.x
  have hb := hc.b
  intro h a0 a1 a2 a3 a4 v5 C9 S9 H locs cells slots hX hf hq hn ls hl
  unfold f_L_law_b272 at hf
  refine lv_aload_n (x := a1) hx hb dL_law_272 rfl (lv_at hl 1 rfl) ?_
  refine lv_aload_n (x := a0) hx hb dL_law_273 rfl (lv_at hl 0 rfl) ?_
  refine lv_iload hx hb dL_law_274 (lv_at hl 5 rfl) ?_
  refine lv_iconst (v := (1 : Int32)) hx hb dL_law_276 (by decide) ?_
  refine lv_iadd hx hb dL_law_277 ?_
  refine zr_nmI hf (fun x101 hf => ?_)
  refine zr_xld hc hn hX hf dL_law_278 (fun x102 hf => ?_)
  refine lv_aload_n (x := a0) hx hb dL_law_279 rfl (lv_at hl 0 rfl) ?_
  refine lv_iload hx hb dL_law_280 (lv_at hl 5 rfl) ?_
  refine lv_iconst (v := (2 : Int32)) hx hb dL_law_282 (by decide) ?_
  refine lv_iadd hx hb dL_law_283 ?_
  refine zr_nmI hf (fun x103 hf => ?_)
  refine zr_xld hc hn hX hf dL_law_284 (fun x104 hf => ?_)
  refine lv_aload_n (x := a0) hx hb dL_law_285 rfl (lv_at hl 0 rfl) ?_
  refine lv_iload hx hb dL_law_286 (lv_at hl 5 rfl) ?_
  refine lv_iconst (v := (3 : Int32)) hx hb dL_law_288 (by decide) ?_
  refine lv_iadd hx hb dL_law_289 ?_
  refine zr_nmI hf (fun x105 hf => ?_)
  refine zr_xld hc hn hX hf dL_law_290 (fun x106 hf => ?_)
  refine lv_aload_n (x := a0) hx hb dL_law_291 rfl (lv_at hl 0 rfl) ?_
  refine lv_iload hx hb dL_law_292 (lv_at hl 5 rfl) ?_
  refine lv_iconst (v := (4 : Int32)) hx hb dL_law_294 (by decide) ?_
  refine lv_iadd hx hb dL_law_295 ?_
  refine zr_nmI hf (fun x107 hf => ?_)
  refine zr_xld hc hn hX hf dL_law_296 (fun x108 hf => ?_)
  refine lv_aload_n (x := a0) hx hb dL_law_297 rfl (lv_at hl 0 rfl) ?_
  refine lv_iload hx hb dL_law_298 (lv_at hl 5 rfl) ?_
  refine lv_iconst (v := (5 : Int32)) hx hb dL_law_300 (by decide) ?_
  refine lv_iadd hx hb dL_law_301 ?_
  refine zr_nmI hf (fun x109 hf => ?_)
  refine zr_xld hc hn hX hf dL_law_302 (fun x110 hf => ?_)
  refine lv_aload_n (x := a3) hx hb dL_law_303 rfl (lv_at hl 3 rfl) ?_
  refine zr_cSWI (As := [.ref a1, .int x102, .int x104, .int x106, .int x108, .int x110, .ref a3]) (rest := []) hc hn hq hd_X0_append (lw_SW q278 q279 q83 q280) (Nat.le_of_ble_eq_true rfl) (Nat.le_of_ble_eq_true rfl) (fun _ _ _ _ q => m_X0_append l hl0 D dA b0 gs h a1 x102 x104 x106 x108 x110 a3 q) hf dL_law_304 hl.1 rfl rfl (zroom (Nat.le_of_ble_eq_true rfl)) (fun x111 h112 H locs cells slots C9 S9 hf hq hn => ?_)
  refine lv_istore (lv' := [(6, .int x111), (0, .ref a0), (1, .ref a1), (2, .ref a2), (3, .ref a3), (4, .ref a4), (5, .int v5)]) hx hb dL_law_307 hl (by decide) rfl (fun ls hl => ?_)
  refine lv_aload_n (x := a2) hx hb dL_law_309 rfl (lv_at hl 3 rfl) ?_
  refine lv_aload_n (x := a0) hx hb dL_law_310 rfl (lv_at hl 1 rfl) ?_
  refine lv_iload hx hb dL_law_311 (lv_at hl 6 rfl) ?_
  refine lv_iconst (v := (1 : Int32)) hx hb dL_law_313 (by decide) ?_
  refine lv_iadd hx hb dL_law_314 ?_
  refine zr_nmI hf (fun x113 hf => ?_)
  refine zr_xld hc hn hX hf dL_law_315 (fun x114 hf => ?_)
  refine lv_aload_n (x := a0) hx hb dL_law_316 rfl (lv_at hl 1 rfl) ?_
  refine lv_iload hx hb dL_law_317 (lv_at hl 6 rfl) ?_
  refine lv_iconst (v := (2 : Int32)) hx hb dL_law_319 (by decide) ?_
  refine lv_iadd hx hb dL_law_320 ?_
  refine zr_nmI hf (fun x115 hf => ?_)
  refine zr_xld hc hn hX hf dL_law_321 (fun x116 hf => ?_)
  refine lv_aload_n (x := a0) hx hb dL_law_322 rfl (lv_at hl 1 rfl) ?_
  refine lv_iload hx hb dL_law_323 (lv_at hl 6 rfl) ?_
  refine lv_iconst (v := (3 : Int32)) hx hb dL_law_325 (by decide) ?_
  refine lv_iadd hx hb dL_law_326 ?_
  refine zr_nmI hf (fun x117 hf => ?_)
  refine zr_xld hc hn hX hf dL_law_327 (fun x118 hf => ?_)
  refine lv_aload_n (x := a0) hx hb dL_law_328 rfl (lv_at hl 1 rfl) ?_
  refine lv_iload hx hb dL_law_329 (lv_at hl 6 rfl) ?_
  refine lv_iconst (v := (4 : Int32)) hx hb dL_law_331 (by decide) ?_
  refine lv_iadd hx hb dL_law_332 ?_
  refine zr_nmI hf (fun x119 hf => ?_)
  refine zr_xld hc hn hX hf dL_law_333 (fun x120 hf => ?_)
  refine lv_aload_n (x := a0) hx hb dL_law_334 rfl (lv_at hl 1 rfl) ?_
  refine lv_iload hx hb dL_law_335 (lv_at hl 6 rfl) ?_
  refine lv_iconst (v := (5 : Int32)) hx hb dL_law_337 (by decide) ?_
  refine lv_iadd hx hb dL_law_338 ?_
  refine zr_nmI hf (fun x121 hf => ?_)
  refine zr_xld hc hn hX hf dL_law_339 (fun x122 hf => ?_)
  refine zr_cVI (As := [.int x114, .int x116, .int x118, .int x120, .int x122]) (rest := []) hc hn hq (ci := 3) rfl ⟨rfl, hd_X4_append⟩ (lw_V q2199 q2200 q2201 q91 q2202) (Nat.le_of_ble_eq_true rfl) (Nat.le_of_ble_eq_true rfl) (fun _ _ _ _ q => m_X4_append l D dA b0 gs h112 a2 x114 x116 x118 x120 x122 q) hf dL_law_340 hl.1 rfl rfl (zroom (Nat.le_of_ble_eq_true rfl)) (fun x123 h124 H locs cells slots C9 S9 hf hq hn => ?_)
  refine lv_istore (lv' := [(7, .int x123), (6, .int x111), (0, .ref a0), (1, .ref a1), (2, .ref a2), (3, .ref a3), (4, .ref a4), (5, .int v5)]) hx hb dL_law_343 hl (by decide) rfl (fun ls hl => ?_)
  refine lv_aload_n (x := a2) hx hb dL_law_345 rfl (lv_at hl 4 rfl) ?_
  refine zr_cVI (As := []) (rest := []) hc hn hq (ci := 3) rfl ⟨rfl, hd_X4_thrown⟩ (lw_V q2195 q2196 q2197 q91 q2198) (Nat.le_of_ble_eq_true rfl) (Nat.le_of_ble_eq_true rfl) (fun _ _ _ _ q => m_X4_thrown l D dA b0 gs h124 a2 q) hf dL_law_346 hl.1 rfl rfl (zroom (Nat.le_of_ble_eq_true rfl)) (fun x125 h126 H locs cells slots C9 S9 hf hq hn => ?_)
  refine lv_iload hx hb dL_law_349 (lv_at hl 1 rfl) ?_
  refine lv_icmp_eq (tgt := 356) hx hb dL_law_351 (by decide) (fun c9 => ?_) (fun c9 => ?_)
  · have hf := zif_t c9 hf
    refine lv_iload hx hb dL_law_356 (lv_at hl 1 rfl) ?_
    refine lv_if_ne (tgt := 373) hx hb dL_law_358 (by decide) (fun c9 => ?_) (fun c9 => ?_)
    · have hf := zif_f c9 hf
      exact m_L_law_b373 hc hr hin hl0 hZ k28 hk28 h126 a0 a1 a2 a3 a4 v5 _ _ _ _ _ _ hX hf hq hn _ (lv_sub hl [2, 3, 4, 5, 6, 7] rfl)
    · have hf := zif_t c9 hf
      refine lv_aload_n (x := a3) hx hb dL_law_361 rfl (lv_at hl 5 rfl) ?_
      refine lv_iconst (v := (0 : Int32)) hx hb dL_law_362 (by decide) ?_
      refine zr_aL hc hn hf dL_law_363 (fun x127 hf => ?_)
      refine lv_iload hx hb dL_law_364 (lv_at hl 0 rfl) ?_
      refine lv_i2l (v := x123.toInt64) hx hb dL_law_366 rfl ?_
      refine zr_nmL hf (fun x128 hf => ?_)
      refine W.lcmp hx hb dL_law_367 ?_
      refine zr_nmI hf (fun x129 hf => ?_)
      refine lv_if_eq (tgt := 373) hx hb dL_law_368 (by decide) (fun c9 => ?_) (fun c9 => ?_)
      · have hf := zif_t c9 hf
        exact m_L_law_b373 hc hr hin hl0 hZ k28 hk28 h126 a0 a1 a2 a3 a4 v5 _ _ _ _ _ _ hX hf hq hn _ (lv_sub hl [2, 3, 4, 5, 6, 7] rfl)
      · have hf := zif_f c9 hf
        refine lv_iconst (v := (0 : Int32)) hx hb dL_law_371 (by decide) ?_
        obtain ⟨rfl, rfl, rfl, rfl⟩ := zret_i hf
        obtain ⟨hq1, hq2⟩ := hq
        subst hq1
        subst hq2
        exact hZ _ _ _ _ dL_law_372 hn
  · have hf := zif_f c9 hf
    refine lv_iconst (v := (0 : Int32)) hx hb dL_law_354 (by decide) ?_
    obtain ⟨rfl, rfl, rfl, rfl⟩ := zret_i hf
    obtain ⟨hq1, hq2⟩ := hq
    subst hq1
    subst hq2
    exact hZ _ _ _ _ dL_law_355 hn
set_option maxHeartbeats 4000000 in
set_option maxRecDepth 100000 in
theorem m_L_law_b429 {p : Program} {l : Launch} {e : Env} {s : State} {m : MethodId} {args : Array Value} {below : List Frame} {meth : Method} {c : Code} {D : va_G} {dA : Nat → ClassId} {b0 : Nat} {gs : Nat → Option Nat} (hc : zC D dA b0 gs x.cls cL_law 9 p c s m args meth) (hr : meth.sig.returnType = ret) (hin : meth.name = x.name) {r : Int32} {hh : PH} {mc ms : Nat} {L : Nat} {xs : Nat → Int32} (hl0 : l.stackTraces = false) {Q : State → Prop} (hZ : ∀ (pc : Nat) (ls : Array Slot) (H : Heap) (locs : List Loc), decode cL_law pc = .ok (.ireturn, 1) → zM D dA b0 gs s hh H locs → W p l e ({ frames := 16, cells := mc, slots := ms, locals := 3214 } : Room) s m args below meth c H locs mc ms Q (F0 m pc ls [.int r])) (k28 : PH → Nat → Nat → Nat → Nat → Nat → Int32 → ZR Int32) (hk28 : ∀ (h : PH) (a0 : Nat) (a1 : Nat) (a2 : Nat) (a3 : Nat) (a4 : Nat) (v5 : Int32) (C9 S9 : Nat) (H : Heap) (locs : List Loc) (cells slots : Nat), va_X a0 L xs s s.heap ∧ a0 < b0 → k28 h a0 a1 a2 a3 a4 v5 = some (r, hh, C9, S9) → cells + C9 = mc ∧ slots + S9 = ms → zM D dA b0 gs s h H locs → ∀ ls : Array Slot, lv_has ls 9 [(0, .ref a0), (1, .ref a1), (2, .ref a2), (3, .ref a3), (4, .ref a4), (5, .int v5)] → W p l e ({ frames := 16, cells := mc, slots := ms, locals := 3214 } : Room) s m args below meth c H locs cells slots Q (F0 m 28 ls [])) : ∀ (h : PH) (a0 : Nat) (a1 : Nat) (a2 : Nat) (a3 : Nat) (a4 : Nat) (v5 : Int32) (C9 S9 : Nat) (H : Heap) (locs : List Loc) (cells slots : Nat), va_X a0 L xs s s.heap ∧ a0 < b0 → f_L_law_b429 L xs k28 h a0 a1 a2 a3 a4 v5 = some (r, hh, C9, S9) → cells + C9 = mc ∧ slots + S9 = ms → zM D dA b0 gs s h H locs → ∀ ls : Array Slot, lv_has ls 9 [(0, .ref a0), (1, .ref a1), (2, .ref a2), (3, .ref a3), (4, .ref a4), (5, .int v5)] → W p l e ({ frames := 16, cells := mc, slots := ms, locals := 3214 } : Room) s m args below meth c H locs cells slots Q (F0 m 429 ls []) := by
  have hx := hc.x
  have hb := hc.b
  intro h a0 a1 a2 a3 a4 v5 C9 S9 H locs cells slots hX hf hq hn ls hl
  unfold f_L_law_b429 at hf
  refine lv_goto (tgt := 3450) hx hb dL_law_429 (by decide) ?_
  exact m_L_law_b3450 hc hr hin hl0 hZ k28 hk28 h a0 a1 a2 a3 a4 v5 _ _ _ _ _ _ hX hf hq hn _ (lv_sub hl [0, 1, 2, 3, 4, 5] rfl)
set_option maxHeartbeats 4000000 in
set_option maxRecDepth 100000 in
theorem m_L_law_b376 {p : Program} {l : Launch} {e : Env} {s : State} {m : MethodId} {args : Array Value} {below : List Frame} {meth : Method} {c : Code} {D : va_G} {dA : Nat → ClassId} {b0 : Nat} {gs : Nat → Option Nat} (hc : zC D dA b0 gs x.cls cL_law 9 p c s m args meth) (hr : meth.sig.returnType = ret) (hin : meth.name = x.name) {r : Int32} {hh : PH} {mc ms : Nat} {L : Nat} {xs : Nat → Int32} (hl0 : l.stackTraces = false) {Q : State → Prop} (hZ : ∀ (pc : Nat) (ls : Array Slot) (H : Heap) (locs : List Loc), decode cL_law pc = .ok (.ireturn, 1) → zM D dA b0 gs s hh H locs → W p l e ({ frames := 16, cells := mc, slots := ms, locals := 3214 } : Room) s m args below meth c H locs mc ms Q (F0 m pc ls [.int r])) (k28 : PH → Nat → Nat → Nat → Nat → Nat → Int32 → ZR Int32) (hk28 : ∀ (h : PH) (a0 : Nat) (a1 : Nat) (a2 : Nat) (a3 : Nat) (a4 : Nat) (v5 : Int32) (C9 S9 : Nat) (H : Heap) (locs : List Loc) (cells slots : Nat), va_X a0 L xs s s.heap ∧ a0 < b0 → k28 h a0 a1 a2 a3 a4 v5 = some (r, hh, C9, S9) → cells + C9 = mc ∧ slots + S9 = ms → zM D dA b0 gs s h H locs → ∀ ls : Array Slot, lv_has ls 9 [(0, .ref a0), (1, .ref a1), (2, .ref a2), (3, .ref a3), (4, .ref a4), (5, .int v5)] → W p l e ({ frames := 16, cells := mc, slots := ms, locals := 3214 } : Room) s m args below meth c H locs cells slots Q (F0 m 28 ls [])) : ∀ (h : PH) (a0 : Nat) (a1 : Nat) (a2 : Nat) (a3 : Nat) (a4 : Nat) (v5 : Int32) (C9 S9 : Nat) (H : Heap) (locs : List Loc) (cells slots : Nat), va_X a0 L xs s s.heap ∧ a0 < b0 → f_L_law_b376 L xs k28 h a0 a1 a2 a3 a4 v5 = some (r, hh, C9, S9) → cells + C9 = mc ∧ slots + S9 = ms → zM D dA b0 gs s h H locs → ∀ ls : Array Slot, lv_has ls 9 [(0, .ref a0), (1, .ref a1), (2, .ref a2), (3, .ref a3), (4, .ref a4), (5, .int v5)] → W p l e ({ frames := 16, cells := mc, slots := ms, locals := 3214 } : Room) s m args below meth c H locs cells slots Q (F0 m 376 ls []) := by
  have hx := hc.x
  have hb := hc.b
  intro h a0 a1 a2 a3 a4 v5 C9 S9 H locs cells slots hX hf hq hn ls hl
  unfold f_L_law_b376 at hf
  refine lv_aload_n (x := a1) hx hb dL_law_376 rfl (lv_at hl 1 rfl) ?_
  refine lv_aload_n (x := a0) hx hb dL_law_377 rfl (lv_at hl 0 rfl) ?_
  refine lv_iload hx hb dL_law_378 (lv_at hl 5 rfl) ?_
  refine lv_iconst (v := (1 : Int32)) hx hb dL_law_380 (by decide) ?_
  refine lv_iadd hx hb dL_law_381 ?_
  refine zr_nmI hf (fun x101 hf => ?_)
  refine zr_xld hc hn hX hf dL_law_382 (fun x102 hf => ?_)
  refine lv_aload_n (x := a3) hx hb dL_law_383 rfl (lv_at hl 3 rfl) ?_
  refine zr_cSWI (As := [.ref a1, .int x102, .ref a3]) (rest := []) hc hn hq hd_X0_truncate (lw_SW q356 q357 q83 q358) (Nat.le_of_ble_eq_true rfl) (Nat.le_of_ble_eq_true rfl) (fun _ _ _ _ q => m_X0_truncate l hl0 D dA b0 gs h a1 x102 a3 q) hf dL_law_384 hl.1 rfl rfl (zroom (Nat.le_of_ble_eq_true rfl)) (fun x103 h104 H locs cells slots C9 S9 hf hq hn => ?_)
  refine lv_istore (lv' := [(6, .int x103), (0, .ref a0), (1, .ref a1), (2, .ref a2), (3, .ref a3), (4, .ref a4), (5, .int v5)]) hx hb dL_law_387 hl (by decide) rfl (fun ls hl => ?_)
  refine lv_aload_n (x := a2) hx hb dL_law_389 rfl (lv_at hl 3 rfl) ?_
  refine lv_aload_n (x := a0) hx hb dL_law_390 rfl (lv_at hl 1 rfl) ?_
  refine lv_iload hx hb dL_law_391 (lv_at hl 6 rfl) ?_
  refine lv_iconst (v := (1 : Int32)) hx hb dL_law_393 (by decide) ?_
  refine lv_iadd hx hb dL_law_394 ?_
  refine zr_nmI hf (fun x105 hf => ?_)
  refine zr_xld hc hn hX hf dL_law_395 (fun x106 hf => ?_)
  refine zr_cVI (As := [.int x106]) (rest := []) hc hn hq (ci := 3) rfl ⟨rfl, hd_X4_truncate⟩ (lw_V q2207 q2208 q2209 q91 q2210) (Nat.le_of_ble_eq_true rfl) (Nat.le_of_ble_eq_true rfl) (fun _ _ _ _ q => m_X4_truncate l D dA b0 gs h104 a2 x106 q) hf dL_law_396 hl.1 rfl rfl (zroom (Nat.le_of_ble_eq_true rfl)) (fun x107 h108 H locs cells slots C9 S9 hf hq hn => ?_)
  refine lv_istore (lv' := [(7, .int x107), (6, .int x103), (0, .ref a0), (1, .ref a1), (2, .ref a2), (3, .ref a3), (4, .ref a4), (5, .int v5)]) hx hb dL_law_399 hl (by decide) rfl (fun ls hl => ?_)
  refine lv_aload_n (x := a2) hx hb dL_law_401 rfl (lv_at hl 4 rfl) ?_
  refine zr_cVI (As := []) (rest := []) hc hn hq (ci := 3) rfl ⟨rfl, hd_X4_thrown⟩ (lw_V q2195 q2196 q2197 q91 q2198) (Nat.le_of_ble_eq_true rfl) (Nat.le_of_ble_eq_true rfl) (fun _ _ _ _ q => m_X4_thrown l D dA b0 gs h108 a2 q) hf dL_law_402 hl.1 rfl rfl (zroom (Nat.le_of_ble_eq_true rfl)) (fun x109 h110 H locs cells slots C9 S9 hf hq hn => ?_)
  refine lv_iload hx hb dL_law_405 (lv_at hl 1 rfl) ?_
  refine lv_icmp_eq (tgt := 412) hx hb dL_law_407 (by decide) (fun c9 => ?_) (fun c9 => ?_)
  · have hf := zif_t c9 hf
    refine lv_iload hx hb dL_law_412 (lv_at hl 1 rfl) ?_
    refine lv_if_ne (tgt := 429) hx hb dL_law_414 (by decide) (fun c9 => ?_) (fun c9 => ?_)
    · have hf := zif_f c9 hf
      exact m_L_law_b429 hc hr hin hl0 hZ k28 hk28 h110 a0 a1 a2 a3 a4 v5 _ _ _ _ _ _ hX hf hq hn _ (lv_sub hl [2, 3, 4, 5, 6, 7] rfl)
    · have hf := zif_t c9 hf
      refine lv_aload_n (x := a3) hx hb dL_law_417 rfl (lv_at hl 5 rfl) ?_
      refine lv_iconst (v := (0 : Int32)) hx hb dL_law_418 (by decide) ?_
      refine zr_aL hc hn hf dL_law_419 (fun x111 hf => ?_)
      refine lv_iload hx hb dL_law_420 (lv_at hl 0 rfl) ?_
      refine lv_i2l (v := x107.toInt64) hx hb dL_law_422 rfl ?_
      refine zr_nmL hf (fun x112 hf => ?_)
      refine W.lcmp hx hb dL_law_423 ?_
      refine zr_nmI hf (fun x113 hf => ?_)
      refine lv_if_eq (tgt := 429) hx hb dL_law_424 (by decide) (fun c9 => ?_) (fun c9 => ?_)
      · have hf := zif_t c9 hf
        exact m_L_law_b429 hc hr hin hl0 hZ k28 hk28 h110 a0 a1 a2 a3 a4 v5 _ _ _ _ _ _ hX hf hq hn _ (lv_sub hl [2, 3, 4, 5, 6, 7] rfl)
      · have hf := zif_f c9 hf
        refine lv_iconst (v := (0 : Int32)) hx hb dL_law_427 (by decide) ?_
        obtain ⟨rfl, rfl, rfl, rfl⟩ := zret_i hf
        obtain ⟨hq1, hq2⟩ := hq
        subst hq1
        subst hq2
        exact hZ _ _ _ _ dL_law_428 hn
  · have hf := zif_f c9 hf
    refine lv_iconst (v := (0 : Int32)) hx hb dL_law_410 (by decide) ?_
    obtain ⟨rfl, rfl, rfl, rfl⟩ := zret_i hf
    obtain ⟨hq1, hq2⟩ := hq
    subst hq1
    subst hq2
    exact hZ _ _ _ _ dL_law_411 hn
set_option maxHeartbeats 4000000 in
set_option maxRecDepth 100000 in
theorem m_L_law_b473 {p : Program} {l : Launch} {e : Env} {s : State} {m : MethodId} {args : Array Value} {below : List Frame} {meth : Method} {c : Code} {D : va_G} {dA : Nat → ClassId} {b0 : Nat} {gs : Nat → Option Nat} (hc : zC D dA b0 gs x.cls cL_law 9 p c s m args meth) (hr : meth.sig.returnType = ret) (hin : meth.name = x.name) {r : Int32} {hh : PH} {mc ms : Nat} {L : Nat} {xs : Nat → Int32} (hl0 : l.stackTraces = false) {Q : State → Prop} (hZ : ∀ (pc : Nat) (ls : Array Slot) (H : Heap) (locs : List Loc), decode cL_law pc = .ok (.ireturn, 1) → zM D dA b0 gs s hh H locs → W p l e ({ frames := 16, cells := mc, slots := ms, locals := 3214 } : Room) s m args below meth c H locs mc ms Q (F0 m pc ls [.int r])) (k28 : PH → Nat → Nat → Nat → Nat → Nat → Int32 → ZR Int32) (hk28 : ∀ (h : PH) (a0 : Nat) (a1 : Nat) (a2 : Nat) (a3 : Nat) (a4 : Nat) (v5 : Int32) (C9 S9 : Nat) (H : Heap) (locs : List Loc) (cells slots : Nat), va_X a0 L xs s s.heap ∧ a0 < b0 → k28 h a0 a1 a2 a3 a4 v5 = some (r, hh, C9, S9) → cells + C9 = mc ∧ slots + S9 = ms → zM D dA b0 gs s h H locs → ∀ ls : Array Slot, lv_has ls 9 [(0, .ref a0), (1, .ref a1), (2, .ref a2), (3, .ref a3), (4, .ref a4), (5, .int v5)] → W p l e ({ frames := 16, cells := mc, slots := ms, locals := 3214 } : Room) s m args below meth c H locs cells slots Q (F0 m 28 ls [])) : ∀ (h : PH) (a0 : Nat) (a1 : Nat) (a2 : Nat) (a3 : Nat) (a4 : Nat) (v5 : Int32) (C9 S9 : Nat) (H : Heap) (locs : List Loc) (cells slots : Nat), va_X a0 L xs s s.heap ∧ a0 < b0 → f_L_law_b473 L xs k28 h a0 a1 a2 a3 a4 v5 = some (r, hh, C9, S9) → cells + C9 = mc ∧ slots + S9 = ms → zM D dA b0 gs s h H locs → ∀ ls : Array Slot, lv_has ls 9 [(0, .ref a0), (1, .ref a1), (2, .ref a2), (3, .ref a3), (4, .ref a4), (5, .int v5)] → W p l e ({ frames := 16, cells := mc, slots := ms, locals := 3214 } : Room) s m args below meth c H locs cells slots Q (F0 m 473 ls []) := by
  have hx := hc.x
  have hb := hc.b
  intro h a0 a1 a2 a3 a4 v5 C9 S9 H locs cells slots hX hf hq hn ls hl
  unfold f_L_law_b473 at hf
  refine lv_goto (tgt := 3450) hx hb dL_law_473 (by decide) ?_
  exact m_L_law_b3450 hc hr hin hl0 hZ k28 hk28 h a0 a1 a2 a3 a4 v5 _ _ _ _ _ _ hX hf hq hn _ (lv_sub hl [0, 1, 2, 3, 4, 5] rfl)
set_option maxHeartbeats 4000000 in
set_option maxRecDepth 100000 in
theorem m_L_law_b432 {p : Program} {l : Launch} {e : Env} {s : State} {m : MethodId} {args : Array Value} {below : List Frame} {meth : Method} {c : Code} {D : va_G} {dA : Nat → ClassId} {b0 : Nat} {gs : Nat → Option Nat} (hc : zC D dA b0 gs x.cls cL_law 9 p c s m args meth) (hr : meth.sig.returnType = ret) (hin : meth.name = x.name) {r : Int32} {hh : PH} {mc ms : Nat} {L : Nat} {xs : Nat → Int32} (hl0 : l.stackTraces = false) {Q : State → Prop} (hZ : ∀ (pc : Nat) (ls : Array Slot) (H : Heap) (locs : List Loc), decode cL_law pc = .ok (.ireturn, 1) → zM D dA b0 gs s hh H locs → W p l e ({ frames := 16, cells := mc, slots := ms, locals := 3214 } : Room) s m args below meth c H locs mc ms Q (F0 m pc ls [.int r])) (k28 : PH → Nat → Nat → Nat → Nat → Nat → Int32 → ZR Int32) (hk28 : ∀ (h : PH) (a0 : Nat) (a1 : Nat) (a2 : Nat) (a3 : Nat) (a4 : Nat) (v5 : Int32) (C9 S9 : Nat) (H : Heap) (locs : List Loc) (cells slots : Nat), va_X a0 L xs s s.heap ∧ a0 < b0 → k28 h a0 a1 a2 a3 a4 v5 = some (r, hh, C9, S9) → cells + C9 = mc ∧ slots + S9 = ms → zM D dA b0 gs s h H locs → ∀ ls : Array Slot, lv_has ls 9 [(0, .ref a0), (1, .ref a1), (2, .ref a2), (3, .ref a3), (4, .ref a4), (5, .int v5)] → W p l e ({ frames := 16, cells := mc, slots := ms, locals := 3214 } : Room) s m args below meth c H locs cells slots Q (F0 m 28 ls [])) : ∀ (h : PH) (a0 : Nat) (a1 : Nat) (a2 : Nat) (a3 : Nat) (a4 : Nat) (v5 : Int32) (C9 S9 : Nat) (H : Heap) (locs : List Loc) (cells slots : Nat), va_X a0 L xs s s.heap ∧ a0 < b0 → f_L_law_b432 L xs k28 h a0 a1 a2 a3 a4 v5 = some (r, hh, C9, S9) → cells + C9 = mc ∧ slots + S9 = ms → zM D dA b0 gs s h H locs → ∀ ls : Array Slot, lv_has ls 9 [(0, .ref a0), (1, .ref a1), (2, .ref a2), (3, .ref a3), (4, .ref a4), (5, .int v5)] → W p l e ({ frames := 16, cells := mc, slots := ms, locals := 3214 } : Room) s m args below meth c H locs cells slots Q (F0 m 432 ls []) := by
  have hx := hc.x
  have hb := hc.b
  intro h a0 a1 a2 a3 a4 v5 C9 S9 H locs cells slots hX hf hq hn ls hl
  unfold f_L_law_b432 at hf
  refine lv_aload_n (x := a1) hx hb dL_law_432 rfl (lv_at hl 1 rfl) ?_
  refine lv_aload_n (x := a3) hx hb dL_law_433 rfl (lv_at hl 3 rfl) ?_
  refine zr_cSWI (As := [.ref a1, .ref a3]) (rest := []) hc hn hq hd_X0_load (lw_SW q413 q414 q83 q415) (Nat.le_of_ble_eq_true rfl) (Nat.le_of_ble_eq_true rfl) (fun _ _ _ _ q => m_X0_load l hl0 D dA b0 gs h a1 a3 q) hf dL_law_434 hl.1 rfl rfl (zroom (Nat.le_of_ble_eq_true rfl)) (fun x101 h102 H locs cells slots C9 S9 hf hq hn => ?_)
  refine lv_istore (lv' := [(6, .int x101), (0, .ref a0), (1, .ref a1), (2, .ref a2), (3, .ref a3), (4, .ref a4), (5, .int v5)]) hx hb dL_law_437 hl (by decide) rfl (fun ls hl => ?_)
  refine lv_aload_n (x := a2) hx hb dL_law_439 rfl (lv_at hl 3 rfl) ?_
  refine zr_cVI (As := []) (rest := []) hc hn hq (ci := 3) rfl ⟨rfl, hd_X4_load⟩ (lw_V q2214 q2215 q2216 q91 q2217) (Nat.le_of_ble_eq_true rfl) (Nat.le_of_ble_eq_true rfl) (fun _ _ _ _ q => m_X4_load l D dA b0 gs h102 a2 q) hf dL_law_440 hl.1 rfl rfl (zroom (Nat.le_of_ble_eq_true rfl)) (fun x103 h104 H locs cells slots C9 S9 hf hq hn => ?_)
  refine lv_istore (lv' := [(7, .int x103), (6, .int x101), (0, .ref a0), (1, .ref a1), (2, .ref a2), (3, .ref a3), (4, .ref a4), (5, .int v5)]) hx hb dL_law_443 hl (by decide) rfl (fun ls hl => ?_)
  refine lv_aload_n (x := a2) hx hb dL_law_445 rfl (lv_at hl 4 rfl) ?_
  refine zr_cVI (As := []) (rest := []) hc hn hq (ci := 3) rfl ⟨rfl, hd_X4_thrown⟩ (lw_V q2195 q2196 q2197 q91 q2198) (Nat.le_of_ble_eq_true rfl) (Nat.le_of_ble_eq_true rfl) (fun _ _ _ _ q => m_X4_thrown l D dA b0 gs h104 a2 q) hf dL_law_446 hl.1 rfl rfl (zroom (Nat.le_of_ble_eq_true rfl)) (fun x105 h106 H locs cells slots C9 S9 hf hq hn => ?_)
  refine lv_iload hx hb dL_law_449 (lv_at hl 1 rfl) ?_
  refine lv_icmp_eq (tgt := 456) hx hb dL_law_451 (by decide) (fun c9 => ?_) (fun c9 => ?_)
  · have hf := zif_t c9 hf
    refine lv_iload hx hb dL_law_456 (lv_at hl 1 rfl) ?_
    refine lv_if_ne (tgt := 473) hx hb dL_law_458 (by decide) (fun c9 => ?_) (fun c9 => ?_)
    · have hf := zif_f c9 hf
      exact m_L_law_b473 hc hr hin hl0 hZ k28 hk28 h106 a0 a1 a2 a3 a4 v5 _ _ _ _ _ _ hX hf hq hn _ (lv_sub hl [2, 3, 4, 5, 6, 7] rfl)
    · have hf := zif_t c9 hf
      refine lv_aload_n (x := a3) hx hb dL_law_461 rfl (lv_at hl 5 rfl) ?_
      refine lv_iconst (v := (0 : Int32)) hx hb dL_law_462 (by decide) ?_
      refine zr_aL hc hn hf dL_law_463 (fun x107 hf => ?_)
      refine lv_iload hx hb dL_law_464 (lv_at hl 0 rfl) ?_
      refine lv_i2l (v := x103.toInt64) hx hb dL_law_466 rfl ?_
      refine zr_nmL hf (fun x108 hf => ?_)
      refine W.lcmp hx hb dL_law_467 ?_
      refine zr_nmI hf (fun x109 hf => ?_)
      refine lv_if_eq (tgt := 473) hx hb dL_law_468 (by decide) (fun c9 => ?_) (fun c9 => ?_)
      · have hf := zif_t c9 hf
        exact m_L_law_b473 hc hr hin hl0 hZ k28 hk28 h106 a0 a1 a2 a3 a4 v5 _ _ _ _ _ _ hX hf hq hn _ (lv_sub hl [2, 3, 4, 5, 6, 7] rfl)
      · have hf := zif_f c9 hf
        refine lv_iconst (v := (0 : Int32)) hx hb dL_law_471 (by decide) ?_
        obtain ⟨rfl, rfl, rfl, rfl⟩ := zret_i hf
        obtain ⟨hq1, hq2⟩ := hq
        subst hq1
        subst hq2
        exact hZ _ _ _ _ dL_law_472 hn
  · have hf := zif_f c9 hf
    refine lv_iconst (v := (0 : Int32)) hx hb dL_law_454 (by decide) ?_
    obtain ⟨rfl, rfl, rfl, rfl⟩ := zret_i hf
    obtain ⟨hq1, hq2⟩ := hq
    subst hq1
    subst hq2
    exact hZ _ _ _ _ dL_law_455 hn
set_option maxHeartbeats 4000000 in
set_option maxRecDepth 100000 in
theorem m_L_law_b476 {p : Program} {l : Launch} {e : Env} {s : State} {m : MethodId} {args : Array Value} {below : List Frame} {meth : Method} {c : Code} {D : va_G} {dA : Nat → ClassId} {b0 : Nat} {gs : Nat → Option Nat} (hc : zC D dA b0 gs x.cls cL_law 9 p c s m args meth) (hr : meth.sig.returnType = ret) (hin : meth.name = x.name) {r : Int32} {hh : PH} {mc ms : Nat} {L : Nat} {xs : Nat → Int32} (hl0 : l.stackTraces = false) {Q : State → Prop} (hZ : ∀ (pc : Nat) (ls : Array Slot) (H : Heap) (locs : List Loc), decode cL_law pc = .ok (.ireturn, 1) → zM D dA b0 gs s hh H locs → W p l e ({ frames := 16, cells := mc, slots := ms, locals := 3214 } : Room) s m args below meth c H locs mc ms Q (F0 m pc ls [.int r])) (k28 : PH → Nat → Nat → Nat → Nat → Nat → Int32 → ZR Int32) (hk28 : ∀ (h : PH) (a0 : Nat) (a1 : Nat) (a2 : Nat) (a3 : Nat) (a4 : Nat) (v5 : Int32) (C9 S9 : Nat) (H : Heap) (locs : List Loc) (cells slots : Nat), va_X a0 L xs s s.heap ∧ a0 < b0 → k28 h a0 a1 a2 a3 a4 v5 = some (r, hh, C9, S9) → cells + C9 = mc ∧ slots + S9 = ms → zM D dA b0 gs s h H locs → ∀ ls : Array Slot, lv_has ls 9 [(0, .ref a0), (1, .ref a1), (2, .ref a2), (3, .ref a3), (4, .ref a4), (5, .int v5)] → W p l e ({ frames := 16, cells := mc, slots := ms, locals := 3214 } : Room) s m args below meth c H locs cells slots Q (F0 m 28 ls [])) : ∀ (h : PH) (a0 : Nat) (a1 : Nat) (a2 : Nat) (a3 : Nat) (a4 : Nat) (v5 : Int32) (C9 S9 : Nat) (H : Heap) (locs : List Loc) (cells slots : Nat), va_X a0 L xs s s.heap ∧ a0 < b0 → f_L_law_b476 L xs k28 h a0 a1 a2 a3 a4 v5 = some (r, hh, C9, S9) → cells + C9 = mc ∧ slots + S9 = ms → zM D dA b0 gs s h H locs → ∀ ls : Array Slot, lv_has ls 9 [(0, .ref a0), (1, .ref a1), (2, .ref a2), (3, .ref a3), (4, .ref a4), (5, .int v5)] → W p l e ({ frames := 16, cells := mc, slots := ms, locals := 3214 } : Room) s m args below meth c H locs cells slots Q (F0 m 476 ls []) := by
  have hx := hc.x
  have hb := hc.b
  intro h a0 a1 a2 a3 a4 v5 C9 S9 H locs cells slots hX hf hq hn ls hl
  unfold f_L_law_b476 at hf
  refine lv_aload_n (x := a1) hx hb dL_law_476 rfl (lv_at hl 1 rfl) ?_
  refine zr_cVI (As := []) (rest := []) hc hn hq (ci := 0) rfl ⟨rfl, hd_X1_errorCode⟩ (lw_V q247 q248 q249 q84 q250) (Nat.le_of_ble_eq_true rfl) (Nat.le_of_ble_eq_true rfl) (fun _ _ _ _ q => m_X1_errorCode l D dA b0 gs h a1 q) hf dL_law_477 hl.1 rfl rfl (zroom (Nat.le_of_ble_eq_true rfl)) (fun x101 h102 H locs cells slots C9 S9 hf hq hn => ?_)
  refine lv_aload_n (x := a2) hx hb dL_law_480 rfl (lv_at hl 2 rfl) ?_
  refine zr_cVI (As := []) (rest := [.int x101]) hc hn hq (ci := 3) rfl ⟨rfl, hd_X4_errorCode⟩ (lw_V q2327 q2328 q2329 q91 q2330) (Nat.le_of_ble_eq_true rfl) (Nat.le_of_ble_eq_true rfl) (fun _ _ _ _ q => m_X4_errorCode l D dA b0 gs h102 a2 q) hf dL_law_481 hl.1 rfl rfl (zroom (Nat.le_of_ble_eq_true rfl)) (fun x103 h104 H locs cells slots C9 S9 hf hq hn => ?_)
  refine lv_icmp_eq (tgt := 3450) hx hb dL_law_484 (by decide) (fun c9 => ?_) (fun c9 => ?_)
  · have hf := zif_t c9 hf
    exact m_L_law_b3450 hc hr hin hl0 hZ k28 hk28 h104 a0 a1 a2 a3 a4 v5 _ _ _ _ _ _ hX hf hq hn _ (lv_sub hl [0, 1, 2, 3, 4, 5] rfl)
  · have hf := zif_f c9 hf
    refine lv_iconst (v := (0 : Int32)) hx hb dL_law_487 (by decide) ?_
    obtain ⟨rfl, rfl, rfl, rfl⟩ := zret_i hf
    obtain ⟨hq1, hq2⟩ := hq
    subst hq1
    subst hq2
    exact hZ _ _ _ _ dL_law_488 hn
set_option maxHeartbeats 4000000 in
set_option maxRecDepth 100000 in
theorem m_L_law_b489 {p : Program} {l : Launch} {e : Env} {s : State} {m : MethodId} {args : Array Value} {below : List Frame} {meth : Method} {c : Code} {D : va_G} {dA : Nat → ClassId} {b0 : Nat} {gs : Nat → Option Nat} (hc : zC D dA b0 gs x.cls cL_law 9 p c s m args meth) (hr : meth.sig.returnType = ret) (hin : meth.name = x.name) {r : Int32} {hh : PH} {mc ms : Nat} {L : Nat} {xs : Nat → Int32} (hl0 : l.stackTraces = false) {Q : State → Prop} (hZ : ∀ (pc : Nat) (ls : Array Slot) (H : Heap) (locs : List Loc), decode cL_law pc = .ok (.ireturn, 1) → zM D dA b0 gs s hh H locs → W p l e ({ frames := 16, cells := mc, slots := ms, locals := 3214 } : Room) s m args below meth c H locs mc ms Q (F0 m pc ls [.int r])) (k28 : PH → Nat → Nat → Nat → Nat → Nat → Int32 → ZR Int32) (hk28 : ∀ (h : PH) (a0 : Nat) (a1 : Nat) (a2 : Nat) (a3 : Nat) (a4 : Nat) (v5 : Int32) (C9 S9 : Nat) (H : Heap) (locs : List Loc) (cells slots : Nat), va_X a0 L xs s s.heap ∧ a0 < b0 → k28 h a0 a1 a2 a3 a4 v5 = some (r, hh, C9, S9) → cells + C9 = mc ∧ slots + S9 = ms → zM D dA b0 gs s h H locs → ∀ ls : Array Slot, lv_has ls 9 [(0, .ref a0), (1, .ref a1), (2, .ref a2), (3, .ref a3), (4, .ref a4), (5, .int v5)] → W p l e ({ frames := 16, cells := mc, slots := ms, locals := 3214 } : Room) s m args below meth c H locs cells slots Q (F0 m 28 ls [])) : ∀ (h : PH) (a0 : Nat) (a1 : Nat) (a2 : Nat) (a3 : Nat) (a4 : Nat) (v5 : Int32) (C9 S9 : Nat) (H : Heap) (locs : List Loc) (cells slots : Nat), va_X a0 L xs s s.heap ∧ a0 < b0 → f_L_law_b489 L xs k28 h a0 a1 a2 a3 a4 v5 = some (r, hh, C9, S9) → cells + C9 = mc ∧ slots + S9 = ms → zM D dA b0 gs s h H locs → ∀ ls : Array Slot, lv_has ls 9 [(0, .ref a0), (1, .ref a1), (2, .ref a2), (3, .ref a3), (4, .ref a4), (5, .int v5)] → W p l e ({ frames := 16, cells := mc, slots := ms, locals := 3214 } : Room) s m args below meth c H locs cells slots Q (F0 m 489 ls []) := by
  have hx := hc.x
  have hb := hc.b
  intro h a0 a1 a2 a3 a4 v5 C9 S9 H locs cells slots hX hf hq hn ls hl
  unfold f_L_law_b489 at hf
  refine lv_aload_n (x := a1) hx hb dL_law_489 rfl (lv_at hl 1 rfl) ?_
  refine zr_cVI (As := []) (rest := []) hc hn hq (ci := 0) rfl ⟨rfl, hd_X1_errorPosition⟩ (lw_V q251 q252 q253 q84 q254) (Nat.le_of_ble_eq_true rfl) (Nat.le_of_ble_eq_true rfl) (fun _ _ _ _ q => m_X1_errorPosition l D dA b0 gs h a1 q) hf dL_law_490 hl.1 rfl rfl (zroom (Nat.le_of_ble_eq_true rfl)) (fun x101 h102 H locs cells slots C9 S9 hf hq hn => ?_)
  refine lv_aload_n (x := a2) hx hb dL_law_493 rfl (lv_at hl 2 rfl) ?_
  refine zr_cVI (As := []) (rest := [.int x101]) hc hn hq (ci := 3) rfl ⟨rfl, hd_X4_errorPosition⟩ (lw_V q2331 q2332 q2333 q91 q2334) (Nat.le_of_ble_eq_true rfl) (Nat.le_of_ble_eq_true rfl) (fun _ _ _ _ q => m_X4_errorPosition l D dA b0 gs h102 a2 q) hf dL_law_494 hl.1 rfl rfl (zroom (Nat.le_of_ble_eq_true rfl)) (fun x103 h104 H locs cells slots C9 S9 hf hq hn => ?_)
  refine lv_icmp_eq (tgt := 3450) hx hb dL_law_497 (by decide) (fun c9 => ?_) (fun c9 => ?_)
  · have hf := zif_t c9 hf
    exact m_L_law_b3450 hc hr hin hl0 hZ k28 hk28 h104 a0 a1 a2 a3 a4 v5 _ _ _ _ _ _ hX hf hq hn _ (lv_sub hl [0, 1, 2, 3, 4, 5] rfl)
  · have hf := zif_f c9 hf
    refine lv_iconst (v := (0 : Int32)) hx hb dL_law_500 (by decide) ?_
    obtain ⟨rfl, rfl, rfl, rfl⟩ := zret_i hf
    obtain ⟨hq1, hq2⟩ := hq
    subst hq1
    subst hq2
    exact hZ _ _ _ _ dL_law_501 hn
set_option maxHeartbeats 4000000 in
set_option maxRecDepth 100000 in
theorem m_L_law_b543 {p : Program} {l : Launch} {e : Env} {s : State} {m : MethodId} {args : Array Value} {below : List Frame} {meth : Method} {c : Code} {D : va_G} {dA : Nat → ClassId} {b0 : Nat} {gs : Nat → Option Nat} (hc : zC D dA b0 gs x.cls cL_law 9 p c s m args meth) (hr : meth.sig.returnType = ret) (hin : meth.name = x.name) {r : Int32} {hh : PH} {mc ms : Nat} {L : Nat} {xs : Nat → Int32} (hl0 : l.stackTraces = false) {Q : State → Prop} (hZ : ∀ (pc : Nat) (ls : Array Slot) (H : Heap) (locs : List Loc), decode cL_law pc = .ok (.ireturn, 1) → zM D dA b0 gs s hh H locs → W p l e ({ frames := 16, cells := mc, slots := ms, locals := 3214 } : Room) s m args below meth c H locs mc ms Q (F0 m pc ls [.int r])) (k28 : PH → Nat → Nat → Nat → Nat → Nat → Int32 → ZR Int32) (hk28 : ∀ (h : PH) (a0 : Nat) (a1 : Nat) (a2 : Nat) (a3 : Nat) (a4 : Nat) (v5 : Int32) (C9 S9 : Nat) (H : Heap) (locs : List Loc) (cells slots : Nat), va_X a0 L xs s s.heap ∧ a0 < b0 → k28 h a0 a1 a2 a3 a4 v5 = some (r, hh, C9, S9) → cells + C9 = mc ∧ slots + S9 = ms → zM D dA b0 gs s h H locs → ∀ ls : Array Slot, lv_has ls 9 [(0, .ref a0), (1, .ref a1), (2, .ref a2), (3, .ref a3), (4, .ref a4), (5, .int v5)] → W p l e ({ frames := 16, cells := mc, slots := ms, locals := 3214 } : Room) s m args below meth c H locs cells slots Q (F0 m 28 ls [])) : ∀ (h : PH) (a0 : Nat) (a1 : Nat) (a2 : Nat) (a3 : Nat) (a4 : Nat) (v5 : Int32) (C9 S9 : Nat) (H : Heap) (locs : List Loc) (cells slots : Nat), va_X a0 L xs s s.heap ∧ a0 < b0 → f_L_law_b543 L xs k28 h a0 a1 a2 a3 a4 v5 = some (r, hh, C9, S9) → cells + C9 = mc ∧ slots + S9 = ms → zM D dA b0 gs s h H locs → ∀ ls : Array Slot, lv_has ls 9 [(0, .ref a0), (1, .ref a1), (2, .ref a2), (3, .ref a3), (4, .ref a4), (5, .int v5)] → W p l e ({ frames := 16, cells := mc, slots := ms, locals := 3214 } : Room) s m args below meth c H locs cells slots Q (F0 m 543 ls []) := by
  have hx := hc.x
  have hb := hc.b
  intro h a0 a1 a2 a3 a4 v5 C9 S9 H locs cells slots hX hf hq hn ls hl
  unfold f_L_law_b543 at hf
  refine lv_goto (tgt := 3450) hx hb dL_law_543 (by decide) ?_
  exact m_L_law_b3450 hc hr hin hl0 hZ k28 hk28 h a0 a1 a2 a3 a4 v5 _ _ _ _ _ _ hX hf hq hn _ (lv_sub hl [0, 1, 2, 3, 4, 5] rfl)
set_option maxHeartbeats 4000000 in
set_option maxRecDepth 100000 in
theorem m_L_law_b502 {p : Program} {l : Launch} {e : Env} {s : State} {m : MethodId} {args : Array Value} {below : List Frame} {meth : Method} {c : Code} {D : va_G} {dA : Nat → ClassId} {b0 : Nat} {gs : Nat → Option Nat} (hc : zC D dA b0 gs x.cls cL_law 9 p c s m args meth) (hr : meth.sig.returnType = ret) (hin : meth.name = x.name) {r : Int32} {hh : PH} {mc ms : Nat} {L : Nat} {xs : Nat → Int32} (hl0 : l.stackTraces = false) {Q : State → Prop} (hZ : ∀ (pc : Nat) (ls : Array Slot) (H : Heap) (locs : List Loc), decode cL_law pc = .ok (.ireturn, 1) → zM D dA b0 gs s hh H locs → W p l e ({ frames := 16, cells := mc, slots := ms, locals := 3214 } : Room) s m args below meth c H locs mc ms Q (F0 m pc ls [.int r])) (k28 : PH → Nat → Nat → Nat → Nat → Nat → Int32 → ZR Int32) (hk28 : ∀ (h : PH) (a0 : Nat) (a1 : Nat) (a2 : Nat) (a3 : Nat) (a4 : Nat) (v5 : Int32) (C9 S9 : Nat) (H : Heap) (locs : List Loc) (cells slots : Nat), va_X a0 L xs s s.heap ∧ a0 < b0 → k28 h a0 a1 a2 a3 a4 v5 = some (r, hh, C9, S9) → cells + C9 = mc ∧ slots + S9 = ms → zM D dA b0 gs s h H locs → ∀ ls : Array Slot, lv_has ls 9 [(0, .ref a0), (1, .ref a1), (2, .ref a2), (3, .ref a3), (4, .ref a4), (5, .int v5)] → W p l e ({ frames := 16, cells := mc, slots := ms, locals := 3214 } : Room) s m args below meth c H locs cells slots Q (F0 m 28 ls [])) : ∀ (h : PH) (a0 : Nat) (a1 : Nat) (a2 : Nat) (a3 : Nat) (a4 : Nat) (v5 : Int32) (C9 S9 : Nat) (H : Heap) (locs : List Loc) (cells slots : Nat), va_X a0 L xs s s.heap ∧ a0 < b0 → f_L_law_b502 L xs k28 h a0 a1 a2 a3 a4 v5 = some (r, hh, C9, S9) → cells + C9 = mc ∧ slots + S9 = ms → zM D dA b0 gs s h H locs → ∀ ls : Array Slot, lv_has ls 9 [(0, .ref a0), (1, .ref a1), (2, .ref a2), (3, .ref a3), (4, .ref a4), (5, .int v5)] → W p l e ({ frames := 16, cells := mc, slots := ms, locals := 3214 } : Room) s m args below meth c H locs cells slots Q (F0 m 502 ls []) := by
  have hx := hc.x
  have hb := hc.b
  intro h a0 a1 a2 a3 a4 v5 C9 S9 H locs cells slots hX hf hq hn ls hl
  unfold f_L_law_b502 at hf
  refine lv_aload_n (x := a1) hx hb dL_law_502 rfl (lv_at hl 1 rfl) ?_
  refine lv_aload_n (x := a3) hx hb dL_law_503 rfl (lv_at hl 3 rfl) ?_
  refine zr_cSWI (As := [.ref a1, .ref a3]) (rest := []) hc hn hq hd_X0_find (lw_SW q1131 q1132 q83 q1133) (Nat.le_of_ble_eq_true rfl) (Nat.le_of_ble_eq_true rfl) (fun _ _ _ _ q => m_X0_find l hl0 D dA b0 gs h a1 a3 q) hf dL_law_504 hl.1 rfl rfl (zroom (Nat.le_of_ble_eq_true rfl)) (fun x101 h102 H locs cells slots C9 S9 hf hq hn => ?_)
  refine lv_istore (lv' := [(6, .int x101), (0, .ref a0), (1, .ref a1), (2, .ref a2), (3, .ref a3), (4, .ref a4), (5, .int v5)]) hx hb dL_law_507 hl (by decide) rfl (fun ls hl => ?_)
  refine lv_aload_n (x := a2) hx hb dL_law_509 rfl (lv_at hl 3 rfl) ?_
  refine zr_cVI (As := []) (rest := []) hc hn hq (ci := 3) rfl ⟨rfl, hd_X4_find⟩ (lw_V q2335 q2336 q2337 q91 q2338) (Nat.le_of_ble_eq_true rfl) (Nat.le_of_ble_eq_true rfl) (fun _ _ _ _ q => m_X4_find l D dA b0 gs h102 a2 q) hf dL_law_510 hl.1 rfl rfl (zroom (Nat.le_of_ble_eq_true rfl)) (fun x103 h104 H locs cells slots C9 S9 hf hq hn => ?_)
  refine lv_istore (lv' := [(7, .int x103), (6, .int x101), (0, .ref a0), (1, .ref a1), (2, .ref a2), (3, .ref a3), (4, .ref a4), (5, .int v5)]) hx hb dL_law_513 hl (by decide) rfl (fun ls hl => ?_)
  refine lv_aload_n (x := a2) hx hb dL_law_515 rfl (lv_at hl 4 rfl) ?_
  refine zr_cVI (As := []) (rest := []) hc hn hq (ci := 3) rfl ⟨rfl, hd_X4_thrown⟩ (lw_V q2195 q2196 q2197 q91 q2198) (Nat.le_of_ble_eq_true rfl) (Nat.le_of_ble_eq_true rfl) (fun _ _ _ _ q => m_X4_thrown l D dA b0 gs h104 a2 q) hf dL_law_516 hl.1 rfl rfl (zroom (Nat.le_of_ble_eq_true rfl)) (fun x105 h106 H locs cells slots C9 S9 hf hq hn => ?_)
  refine lv_iload hx hb dL_law_519 (lv_at hl 1 rfl) ?_
  refine lv_icmp_eq (tgt := 526) hx hb dL_law_521 (by decide) (fun c9 => ?_) (fun c9 => ?_)
  · have hf := zif_t c9 hf
    refine lv_iload hx hb dL_law_526 (lv_at hl 1 rfl) ?_
    refine lv_if_ne (tgt := 543) hx hb dL_law_528 (by decide) (fun c9 => ?_) (fun c9 => ?_)
    · have hf := zif_f c9 hf
      exact m_L_law_b543 hc hr hin hl0 hZ k28 hk28 h106 a0 a1 a2 a3 a4 v5 _ _ _ _ _ _ hX hf hq hn _ (lv_sub hl [2, 3, 4, 5, 6, 7] rfl)
    · have hf := zif_t c9 hf
      refine lv_aload_n (x := a3) hx hb dL_law_531 rfl (lv_at hl 5 rfl) ?_
      refine lv_iconst (v := (0 : Int32)) hx hb dL_law_532 (by decide) ?_
      refine zr_aL hc hn hf dL_law_533 (fun x107 hf => ?_)
      refine lv_iload hx hb dL_law_534 (lv_at hl 0 rfl) ?_
      refine lv_i2l (v := x103.toInt64) hx hb dL_law_536 rfl ?_
      refine zr_nmL hf (fun x108 hf => ?_)
      refine W.lcmp hx hb dL_law_537 ?_
      refine zr_nmI hf (fun x109 hf => ?_)
      refine lv_if_eq (tgt := 543) hx hb dL_law_538 (by decide) (fun c9 => ?_) (fun c9 => ?_)
      · have hf := zif_t c9 hf
        exact m_L_law_b543 hc hr hin hl0 hZ k28 hk28 h106 a0 a1 a2 a3 a4 v5 _ _ _ _ _ _ hX hf hq hn _ (lv_sub hl [2, 3, 4, 5, 6, 7] rfl)
      · have hf := zif_f c9 hf
        refine lv_iconst (v := (0 : Int32)) hx hb dL_law_541 (by decide) ?_
        obtain ⟨rfl, rfl, rfl, rfl⟩ := zret_i hf
        obtain ⟨hq1, hq2⟩ := hq
        subst hq1
        subst hq2
        exact hZ _ _ _ _ dL_law_542 hn
  · have hf := zif_f c9 hf
    refine lv_iconst (v := (0 : Int32)) hx hb dL_law_524 (by decide) ?_
    obtain ⟨rfl, rfl, rfl, rfl⟩ := zret_i hf
    obtain ⟨hq1, hq2⟩ := hq
    subst hq1
    subst hq2
    exact hZ _ _ _ _ dL_law_525 hn
set_option maxHeartbeats 4000000 in
set_option maxRecDepth 100000 in
theorem m_L_law_b546 {p : Program} {l : Launch} {e : Env} {s : State} {m : MethodId} {args : Array Value} {below : List Frame} {meth : Method} {c : Code} {D : va_G} {dA : Nat → ClassId} {b0 : Nat} {gs : Nat → Option Nat} (hc : zC D dA b0 gs x.cls cL_law 9 p c s m args meth) (hr : meth.sig.returnType = ret) (hin : meth.name = x.name) {r : Int32} {hh : PH} {mc ms : Nat} {L : Nat} {xs : Nat → Int32} (hl0 : l.stackTraces = false) {Q : State → Prop} (hZ : ∀ (pc : Nat) (ls : Array Slot) (H : Heap) (locs : List Loc), decode cL_law pc = .ok (.ireturn, 1) → zM D dA b0 gs s hh H locs → W p l e ({ frames := 16, cells := mc, slots := ms, locals := 3214 } : Room) s m args below meth c H locs mc ms Q (F0 m pc ls [.int r])) (k28 : PH → Nat → Nat → Nat → Nat → Nat → Int32 → ZR Int32) (hk28 : ∀ (h : PH) (a0 : Nat) (a1 : Nat) (a2 : Nat) (a3 : Nat) (a4 : Nat) (v5 : Int32) (C9 S9 : Nat) (H : Heap) (locs : List Loc) (cells slots : Nat), va_X a0 L xs s s.heap ∧ a0 < b0 → k28 h a0 a1 a2 a3 a4 v5 = some (r, hh, C9, S9) → cells + C9 = mc ∧ slots + S9 = ms → zM D dA b0 gs s h H locs → ∀ ls : Array Slot, lv_has ls 9 [(0, .ref a0), (1, .ref a1), (2, .ref a2), (3, .ref a3), (4, .ref a4), (5, .int v5)] → W p l e ({ frames := 16, cells := mc, slots := ms, locals := 3214 } : Room) s m args below meth c H locs cells slots Q (F0 m 28 ls [])) : ∀ (h : PH) (a0 : Nat) (a1 : Nat) (a2 : Nat) (a3 : Nat) (a4 : Nat) (v5 : Int32) (C9 S9 : Nat) (H : Heap) (locs : List Loc) (cells slots : Nat), va_X a0 L xs s s.heap ∧ a0 < b0 → f_L_law_b546 L xs k28 h a0 a1 a2 a3 a4 v5 = some (r, hh, C9, S9) → cells + C9 = mc ∧ slots + S9 = ms → zM D dA b0 gs s h H locs → ∀ ls : Array Slot, lv_has ls 9 [(0, .ref a0), (1, .ref a1), (2, .ref a2), (3, .ref a3), (4, .ref a4), (5, .int v5)] → W p l e ({ frames := 16, cells := mc, slots := ms, locals := 3214 } : Room) s m args below meth c H locs cells slots Q (F0 m 546 ls []) := by
  have hx := hc.x
  have hb := hc.b
  intro h a0 a1 a2 a3 a4 v5 C9 S9 H locs cells slots hX hf hq hn ls hl
  unfold f_L_law_b546 at hf
  refine lv_aload_n (x := a1) hx hb dL_law_546 rfl (lv_at hl 1 rfl) ?_
  refine lv_aload_n (x := a0) hx hb dL_law_547 rfl (lv_at hl 0 rfl) ?_
  refine lv_iload hx hb dL_law_548 (lv_at hl 5 rfl) ?_
  refine lv_iconst (v := (1 : Int32)) hx hb dL_law_550 (by decide) ?_
  refine lv_iadd hx hb dL_law_551 ?_
  refine zr_nmI hf (fun x101 hf => ?_)
  refine zr_xld hc hn hX hf dL_law_552 (fun x102 hf => ?_)
  refine zr_cVI (As := [.int x102]) (rest := []) hc hn hq (ci := 0) rfl ⟨rfl, hd_X1_exists⟩ (lw_V q255 q256 q257 q84 q258) (Nat.le_of_ble_eq_true rfl) (Nat.le_of_ble_eq_true rfl) (fun _ _ _ _ q => m_X1_exists l D dA b0 gs h a1 x102 q) hf dL_law_553 hl.1 rfl rfl (zroom (Nat.le_of_ble_eq_true rfl)) (fun x103 h104 H locs cells slots C9 S9 hf hq hn => ?_)
  refine lv_aload_n (x := a2) hx hb dL_law_556 rfl (lv_at hl 2 rfl) ?_
  refine lv_aload_n (x := a0) hx hb dL_law_557 rfl (lv_at hl 0 rfl) ?_
  refine lv_iload hx hb dL_law_558 (lv_at hl 5 rfl) ?_
  refine lv_iconst (v := (1 : Int32)) hx hb dL_law_560 (by decide) ?_
  refine lv_iadd hx hb dL_law_561 ?_
  refine zr_nmI hf (fun x105 hf => ?_)
  refine zr_xld hc hn hX hf dL_law_562 (fun x106 hf => ?_)
  refine zr_cVI (As := [.int x106]) (rest := [.int x103]) hc hn hq (ci := 3) rfl ⟨rfl, hd_X4_exists⟩ (lw_V q2339 q2340 q2341 q91 q2342) (Nat.le_of_ble_eq_true rfl) (Nat.le_of_ble_eq_true rfl) (fun _ _ _ _ q => m_X4_exists l D dA b0 gs h104 a2 x106 q) hf dL_law_563 hl.1 rfl rfl (zroom (Nat.le_of_ble_eq_true rfl)) (fun x107 h108 H locs cells slots C9 S9 hf hq hn => ?_)
  refine lv_icmp_eq (tgt := 3450) hx hb dL_law_566 (by decide) (fun c9 => ?_) (fun c9 => ?_)
  · have hf := zif_t c9 hf
    exact m_L_law_b3450 hc hr hin hl0 hZ k28 hk28 h108 a0 a1 a2 a3 a4 v5 _ _ _ _ _ _ hX hf hq hn _ (lv_sub hl [0, 1, 2, 3, 4, 5] rfl)
  · have hf := zif_f c9 hf
    refine lv_iconst (v := (0 : Int32)) hx hb dL_law_569 (by decide) ?_
    obtain ⟨rfl, rfl, rfl, rfl⟩ := zret_i hf
    obtain ⟨hq1, hq2⟩ := hq
    subst hq1
    subst hq2
    exact hZ _ _ _ _ dL_law_570 hn
set_option maxHeartbeats 4000000 in
set_option maxRecDepth 100000 in
theorem m_L_law_b571 {p : Program} {l : Launch} {e : Env} {s : State} {m : MethodId} {args : Array Value} {below : List Frame} {meth : Method} {c : Code} {D : va_G} {dA : Nat → ClassId} {b0 : Nat} {gs : Nat → Option Nat} (hc : zC D dA b0 gs x.cls cL_law 9 p c s m args meth) (hr : meth.sig.returnType = ret) (hin : meth.name = x.name) {r : Int32} {hh : PH} {mc ms : Nat} {L : Nat} {xs : Nat → Int32} (hl0 : l.stackTraces = false) {Q : State → Prop} (hZ : ∀ (pc : Nat) (ls : Array Slot) (H : Heap) (locs : List Loc), decode cL_law pc = .ok (.ireturn, 1) → zM D dA b0 gs s hh H locs → W p l e ({ frames := 16, cells := mc, slots := ms, locals := 3214 } : Room) s m args below meth c H locs mc ms Q (F0 m pc ls [.int r])) (k28 : PH → Nat → Nat → Nat → Nat → Nat → Int32 → ZR Int32) (hk28 : ∀ (h : PH) (a0 : Nat) (a1 : Nat) (a2 : Nat) (a3 : Nat) (a4 : Nat) (v5 : Int32) (C9 S9 : Nat) (H : Heap) (locs : List Loc) (cells slots : Nat), va_X a0 L xs s s.heap ∧ a0 < b0 → k28 h a0 a1 a2 a3 a4 v5 = some (r, hh, C9, S9) → cells + C9 = mc ∧ slots + S9 = ms → zM D dA b0 gs s h H locs → ∀ ls : Array Slot, lv_has ls 9 [(0, .ref a0), (1, .ref a1), (2, .ref a2), (3, .ref a3), (4, .ref a4), (5, .int v5)] → W p l e ({ frames := 16, cells := mc, slots := ms, locals := 3214 } : Room) s m args below meth c H locs cells slots Q (F0 m 28 ls [])) : ∀ (h : PH) (a0 : Nat) (a1 : Nat) (a2 : Nat) (a3 : Nat) (a4 : Nat) (v5 : Int32) (C9 S9 : Nat) (H : Heap) (locs : List Loc) (cells slots : Nat), va_X a0 L xs s s.heap ∧ a0 < b0 → f_L_law_b571 L xs k28 h a0 a1 a2 a3 a4 v5 = some (r, hh, C9, S9) → cells + C9 = mc ∧ slots + S9 = ms → zM D dA b0 gs s h H locs → ∀ ls : Array Slot, lv_has ls 9 [(0, .ref a0), (1, .ref a1), (2, .ref a2), (3, .ref a3), (4, .ref a4), (5, .int v5)] → W p l e ({ frames := 16, cells := mc, slots := ms, locals := 3214 } : Room) s m args below meth c H locs cells slots Q (F0 m 571 ls []) := by
  have hx := hc.x
  have hb := hc.b
  intro h a0 a1 a2 a3 a4 v5 C9 S9 H locs cells slots hX hf hq hn ls hl
  unfold f_L_law_b571 at hf
  refine lv_aload_n (x := a1) hx hb dL_law_571 rfl (lv_at hl 1 rfl) ?_
  refine zr_cVI (As := []) (rest := []) hc hn hq (ci := 0) rfl ⟨rfl, hd_X1_limit⟩ (lw_V q262 q263 q264 q84 q265) (Nat.le_of_ble_eq_true rfl) (Nat.le_of_ble_eq_true rfl) (fun _ _ _ _ q => m_X1_limit l D dA b0 gs h a1 q) hf dL_law_572 hl.1 rfl rfl (zroom (Nat.le_of_ble_eq_true rfl)) (fun x101 h102 H locs cells slots C9 S9 hf hq hn => ?_)
  refine lv_aload_n (x := a2) hx hb dL_law_575 rfl (lv_at hl 2 rfl) ?_
  refine zr_cVI (As := []) (rest := [.int x101]) hc hn hq (ci := 3) rfl ⟨rfl, hd_X4_limit⟩ (lw_V q2348 q2349 q2350 q91 q2351) (Nat.le_of_ble_eq_true rfl) (Nat.le_of_ble_eq_true rfl) (fun _ _ _ _ q => m_X4_limit l D dA b0 gs h102 a2 q) hf dL_law_576 hl.1 rfl rfl (zroom (Nat.le_of_ble_eq_true rfl)) (fun x103 h104 H locs cells slots C9 S9 hf hq hn => ?_)
  refine lv_icmp_eq (tgt := 3450) hx hb dL_law_579 (by decide) (fun c9 => ?_) (fun c9 => ?_)
  · have hf := zif_t c9 hf
    exact m_L_law_b3450 hc hr hin hl0 hZ k28 hk28 h104 a0 a1 a2 a3 a4 v5 _ _ _ _ _ _ hX hf hq hn _ (lv_sub hl [0, 1, 2, 3, 4, 5] rfl)
  · have hf := zif_f c9 hf
    refine lv_iconst (v := (0 : Int32)) hx hb dL_law_582 (by decide) ?_
    obtain ⟨rfl, rfl, rfl, rfl⟩ := zret_i hf
    obtain ⟨hq1, hq2⟩ := hq
    subst hq1
    subst hq2
    exact hZ _ _ _ _ dL_law_583 hn
set_option maxHeartbeats 4000000 in
set_option maxRecDepth 100000 in
theorem m_L_law_b637 {p : Program} {l : Launch} {e : Env} {s : State} {m : MethodId} {args : Array Value} {below : List Frame} {meth : Method} {c : Code} {D : va_G} {dA : Nat → ClassId} {b0 : Nat} {gs : Nat → Option Nat} (hc : zC D dA b0 gs x.cls cL_law 9 p c s m args meth) (hr : meth.sig.returnType = ret) (hin : meth.name = x.name) {r : Int32} {hh : PH} {mc ms : Nat} {L : Nat} {xs : Nat → Int32} (hl0 : l.stackTraces = false) {Q : State → Prop} (hZ : ∀ (pc : Nat) (ls : Array Slot) (H : Heap) (locs : List Loc), decode cL_law pc = .ok (.ireturn, 1) → zM D dA b0 gs s hh H locs → W p l e ({ frames := 16, cells := mc, slots := ms, locals := 3214 } : Room) s m args below meth c H locs mc ms Q (F0 m pc ls [.int r])) (k28 : PH → Nat → Nat → Nat → Nat → Nat → Int32 → ZR Int32) (hk28 : ∀ (h : PH) (a0 : Nat) (a1 : Nat) (a2 : Nat) (a3 : Nat) (a4 : Nat) (v5 : Int32) (C9 S9 : Nat) (H : Heap) (locs : List Loc) (cells slots : Nat), va_X a0 L xs s s.heap ∧ a0 < b0 → k28 h a0 a1 a2 a3 a4 v5 = some (r, hh, C9, S9) → cells + C9 = mc ∧ slots + S9 = ms → zM D dA b0 gs s h H locs → ∀ ls : Array Slot, lv_has ls 9 [(0, .ref a0), (1, .ref a1), (2, .ref a2), (3, .ref a3), (4, .ref a4), (5, .int v5)] → W p l e ({ frames := 16, cells := mc, slots := ms, locals := 3214 } : Room) s m args below meth c H locs cells slots Q (F0 m 28 ls [])) : ∀ (h : PH) (a0 : Nat) (a1 : Nat) (a2 : Nat) (a3 : Nat) (a4 : Nat) (v5 : Int32) (C9 S9 : Nat) (H : Heap) (locs : List Loc) (cells slots : Nat), va_X a0 L xs s s.heap ∧ a0 < b0 → f_L_law_b637 L xs k28 h a0 a1 a2 a3 a4 v5 = some (r, hh, C9, S9) → cells + C9 = mc ∧ slots + S9 = ms → zM D dA b0 gs s h H locs → ∀ ls : Array Slot, lv_has ls 9 [(0, .ref a0), (1, .ref a1), (2, .ref a2), (3, .ref a3), (4, .ref a4), (5, .int v5)] → W p l e ({ frames := 16, cells := mc, slots := ms, locals := 3214 } : Room) s m args below meth c H locs cells slots Q (F0 m 637 ls []) := by
  have hx := hc.x
  have hb := hc.b
  intro h a0 a1 a2 a3 a4 v5 C9 S9 H locs cells slots hX hf hq hn ls hl
  unfold f_L_law_b637 at hf
  refine lv_goto (tgt := 3450) hx hb dL_law_637 (by decide) ?_
  exact m_L_law_b3450 hc hr hin hl0 hZ k28 hk28 h a0 a1 a2 a3 a4 v5 _ _ _ _ _ _ hX hf hq hn _ (lv_sub hl [0, 1, 2, 3, 4, 5] rfl)
set_option maxHeartbeats 4000000 in
set_option maxRecDepth 100000 in
theorem m_L_law_b584 {p : Program} {l : Launch} {e : Env} {s : State} {m : MethodId} {args : Array Value} {below : List Frame} {meth : Method} {c : Code} {D : va_G} {dA : Nat → ClassId} {b0 : Nat} {gs : Nat → Option Nat} (hc : zC D dA b0 gs x.cls cL_law 9 p c s m args meth) (hr : meth.sig.returnType = ret) (hin : meth.name = x.name) {r : Int32} {hh : PH} {mc ms : Nat} {L : Nat} {xs : Nat → Int32} (hl0 : l.stackTraces = false) {Q : State → Prop} (hZ : ∀ (pc : Nat) (ls : Array Slot) (H : Heap) (locs : List Loc), decode cL_law pc = .ok (.ireturn, 1) → zM D dA b0 gs s hh H locs → W p l e ({ frames := 16, cells := mc, slots := ms, locals := 3214 } : Room) s m args below meth c H locs mc ms Q (F0 m pc ls [.int r])) (k28 : PH → Nat → Nat → Nat → Nat → Nat → Int32 → ZR Int32) (hk28 : ∀ (h : PH) (a0 : Nat) (a1 : Nat) (a2 : Nat) (a3 : Nat) (a4 : Nat) (v5 : Int32) (C9 S9 : Nat) (H : Heap) (locs : List Loc) (cells slots : Nat), va_X a0 L xs s s.heap ∧ a0 < b0 → k28 h a0 a1 a2 a3 a4 v5 = some (r, hh, C9, S9) → cells + C9 = mc ∧ slots + S9 = ms → zM D dA b0 gs s h H locs → ∀ ls : Array Slot, lv_has ls 9 [(0, .ref a0), (1, .ref a1), (2, .ref a2), (3, .ref a3), (4, .ref a4), (5, .int v5)] → W p l e ({ frames := 16, cells := mc, slots := ms, locals := 3214 } : Room) s m args below meth c H locs cells slots Q (F0 m 28 ls [])) : ∀ (h : PH) (a0 : Nat) (a1 : Nat) (a2 : Nat) (a3 : Nat) (a4 : Nat) (v5 : Int32) (C9 S9 : Nat) (H : Heap) (locs : List Loc) (cells slots : Nat), va_X a0 L xs s s.heap ∧ a0 < b0 → f_L_law_b584 L xs k28 h a0 a1 a2 a3 a4 v5 = some (r, hh, C9, S9) → cells + C9 = mc ∧ slots + S9 = ms → zM D dA b0 gs s h H locs → ∀ ls : Array Slot, lv_has ls 9 [(0, .ref a0), (1, .ref a1), (2, .ref a2), (3, .ref a3), (4, .ref a4), (5, .int v5)] → W p l e ({ frames := 16, cells := mc, slots := ms, locals := 3214 } : Room) s m args below meth c H locs cells slots Q (F0 m 584 ls []) := by
  have hx := hc.x
  have hb := hc.b
  intro h a0 a1 a2 a3 a4 v5 C9 S9 H locs cells slots hX hf hq hn ls hl
  unfold f_L_law_b584 at hf
  refine lv_aload_n (x := a1) hx hb dL_law_584 rfl (lv_at hl 1 rfl) ?_
  refine lv_aload_n (x := a0) hx hb dL_law_585 rfl (lv_at hl 0 rfl) ?_
  refine lv_iload hx hb dL_law_586 (lv_at hl 5 rfl) ?_
  refine lv_iconst (v := (1 : Int32)) hx hb dL_law_588 (by decide) ?_
  refine lv_iadd hx hb dL_law_589 ?_
  refine zr_nmI hf (fun x101 hf => ?_)
  refine zr_xld hc hn hX hf dL_law_590 (fun x102 hf => ?_)
  refine lv_aload_n (x := a3) hx hb dL_law_591 rfl (lv_at hl 3 rfl) ?_
  refine zr_cSWI (As := [.ref a1, .int x102, .ref a3]) (rest := []) hc hn hq hd_X0_size (lw_SW q1163 q1164 q83 q1165) (Nat.le_of_ble_eq_true rfl) (Nat.le_of_ble_eq_true rfl) (fun _ _ _ _ q => m_X0_size l hl0 D dA b0 gs h a1 x102 a3 q) hf dL_law_592 hl.1 rfl rfl (zroom (Nat.le_of_ble_eq_true rfl)) (fun x103 h104 H locs cells slots C9 S9 hf hq hn => ?_)
  refine lv_istore (lv' := [(6, .int x103), (0, .ref a0), (1, .ref a1), (2, .ref a2), (3, .ref a3), (4, .ref a4), (5, .int v5)]) hx hb dL_law_595 hl (by decide) rfl (fun ls hl => ?_)
  refine lv_aload_n (x := a2) hx hb dL_law_597 rfl (lv_at hl 3 rfl) ?_
  refine lv_aload_n (x := a0) hx hb dL_law_598 rfl (lv_at hl 1 rfl) ?_
  refine lv_iload hx hb dL_law_599 (lv_at hl 6 rfl) ?_
  refine lv_iconst (v := (1 : Int32)) hx hb dL_law_601 (by decide) ?_
  refine lv_iadd hx hb dL_law_602 ?_
  refine zr_nmI hf (fun x105 hf => ?_)
  refine zr_xld hc hn hX hf dL_law_603 (fun x106 hf => ?_)
  refine zr_cVI (As := [.int x106]) (rest := []) hc hn hq (ci := 3) rfl ⟨rfl, hd_X4_size⟩ (lw_V q2352 q2353 q2354 q91 q2355) (Nat.le_of_ble_eq_true rfl) (Nat.le_of_ble_eq_true rfl) (fun _ _ _ _ q => m_X4_size l D dA b0 gs h104 a2 x106 q) hf dL_law_604 hl.1 rfl rfl (zroom (Nat.le_of_ble_eq_true rfl)) (fun x107 h108 H locs cells slots C9 S9 hf hq hn => ?_)
  refine lv_istore (lv' := [(7, .int x107), (6, .int x103), (0, .ref a0), (1, .ref a1), (2, .ref a2), (3, .ref a3), (4, .ref a4), (5, .int v5)]) hx hb dL_law_607 hl (by decide) rfl (fun ls hl => ?_)
  refine lv_aload_n (x := a2) hx hb dL_law_609 rfl (lv_at hl 4 rfl) ?_
  refine zr_cVI (As := []) (rest := []) hc hn hq (ci := 3) rfl ⟨rfl, hd_X4_thrown⟩ (lw_V q2195 q2196 q2197 q91 q2198) (Nat.le_of_ble_eq_true rfl) (Nat.le_of_ble_eq_true rfl) (fun _ _ _ _ q => m_X4_thrown l D dA b0 gs h108 a2 q) hf dL_law_610 hl.1 rfl rfl (zroom (Nat.le_of_ble_eq_true rfl)) (fun x109 h110 H locs cells slots C9 S9 hf hq hn => ?_)
  refine lv_iload hx hb dL_law_613 (lv_at hl 1 rfl) ?_
  refine lv_icmp_eq (tgt := 620) hx hb dL_law_615 (by decide) (fun c9 => ?_) (fun c9 => ?_)
  · have hf := zif_t c9 hf
    refine lv_iload hx hb dL_law_620 (lv_at hl 1 rfl) ?_
    refine lv_if_ne (tgt := 637) hx hb dL_law_622 (by decide) (fun c9 => ?_) (fun c9 => ?_)
    · have hf := zif_f c9 hf
      exact m_L_law_b637 hc hr hin hl0 hZ k28 hk28 h110 a0 a1 a2 a3 a4 v5 _ _ _ _ _ _ hX hf hq hn _ (lv_sub hl [2, 3, 4, 5, 6, 7] rfl)
    · have hf := zif_t c9 hf
      refine lv_aload_n (x := a3) hx hb dL_law_625 rfl (lv_at hl 5 rfl) ?_
      refine lv_iconst (v := (0 : Int32)) hx hb dL_law_626 (by decide) ?_
      refine zr_aL hc hn hf dL_law_627 (fun x111 hf => ?_)
      refine lv_iload hx hb dL_law_628 (lv_at hl 0 rfl) ?_
      refine lv_i2l (v := x107.toInt64) hx hb dL_law_630 rfl ?_
      refine zr_nmL hf (fun x112 hf => ?_)
      refine W.lcmp hx hb dL_law_631 ?_
      refine zr_nmI hf (fun x113 hf => ?_)
      refine lv_if_eq (tgt := 637) hx hb dL_law_632 (by decide) (fun c9 => ?_) (fun c9 => ?_)
      · have hf := zif_t c9 hf
        exact m_L_law_b637 hc hr hin hl0 hZ k28 hk28 h110 a0 a1 a2 a3 a4 v5 _ _ _ _ _ _ hX hf hq hn _ (lv_sub hl [2, 3, 4, 5, 6, 7] rfl)
      · have hf := zif_f c9 hf
        refine lv_iconst (v := (0 : Int32)) hx hb dL_law_635 (by decide) ?_
        obtain ⟨rfl, rfl, rfl, rfl⟩ := zret_i hf
        obtain ⟨hq1, hq2⟩ := hq
        subst hq1
        subst hq2
        exact hZ _ _ _ _ dL_law_636 hn
  · have hf := zif_f c9 hf
    refine lv_iconst (v := (0 : Int32)) hx hb dL_law_618 (by decide) ?_
    obtain ⟨rfl, rfl, rfl, rfl⟩ := zret_i hf
    obtain ⟨hq1, hq2⟩ := hq
    subst hq1
    subst hq2
    exact hZ _ _ _ _ dL_law_619 hn
set_option maxHeartbeats 4000000 in
set_option maxRecDepth 100000 in
theorem m_L_law_b693 {p : Program} {l : Launch} {e : Env} {s : State} {m : MethodId} {args : Array Value} {below : List Frame} {meth : Method} {c : Code} {D : va_G} {dA : Nat → ClassId} {b0 : Nat} {gs : Nat → Option Nat} (hc : zC D dA b0 gs x.cls cL_law 9 p c s m args meth) (hr : meth.sig.returnType = ret) (hin : meth.name = x.name) {r : Int32} {hh : PH} {mc ms : Nat} {L : Nat} {xs : Nat → Int32} (hl0 : l.stackTraces = false) {Q : State → Prop} (hZ : ∀ (pc : Nat) (ls : Array Slot) (H : Heap) (locs : List Loc), decode cL_law pc = .ok (.ireturn, 1) → zM D dA b0 gs s hh H locs → W p l e ({ frames := 16, cells := mc, slots := ms, locals := 3214 } : Room) s m args below meth c H locs mc ms Q (F0 m pc ls [.int r])) (k28 : PH → Nat → Nat → Nat → Nat → Nat → Int32 → ZR Int32) (hk28 : ∀ (h : PH) (a0 : Nat) (a1 : Nat) (a2 : Nat) (a3 : Nat) (a4 : Nat) (v5 : Int32) (C9 S9 : Nat) (H : Heap) (locs : List Loc) (cells slots : Nat), va_X a0 L xs s s.heap ∧ a0 < b0 → k28 h a0 a1 a2 a3 a4 v5 = some (r, hh, C9, S9) → cells + C9 = mc ∧ slots + S9 = ms → zM D dA b0 gs s h H locs → ∀ ls : Array Slot, lv_has ls 9 [(0, .ref a0), (1, .ref a1), (2, .ref a2), (3, .ref a3), (4, .ref a4), (5, .int v5)] → W p l e ({ frames := 16, cells := mc, slots := ms, locals := 3214 } : Room) s m args below meth c H locs cells slots Q (F0 m 28 ls [])) : ∀ (h : PH) (a0 : Nat) (a1 : Nat) (a2 : Nat) (a3 : Nat) (a4 : Nat) (v5 : Int32) (C9 S9 : Nat) (H : Heap) (locs : List Loc) (cells slots : Nat), va_X a0 L xs s s.heap ∧ a0 < b0 → f_L_law_b693 L xs k28 h a0 a1 a2 a3 a4 v5 = some (r, hh, C9, S9) → cells + C9 = mc ∧ slots + S9 = ms → zM D dA b0 gs s h H locs → ∀ ls : Array Slot, lv_has ls 9 [(0, .ref a0), (1, .ref a1), (2, .ref a2), (3, .ref a3), (4, .ref a4), (5, .int v5)] → W p l e ({ frames := 16, cells := mc, slots := ms, locals := 3214 } : Room) s m args below meth c H locs cells slots Q (F0 m 693 ls []) := by
  have hx := hc.x
  have hb := hc.b
  intro h a0 a1 a2 a3 a4 v5 C9 S9 H locs cells slots hX hf hq hn ls hl
  unfold f_L_law_b693 at hf
  refine lv_goto (tgt := 3450) hx hb dL_law_693 (by decide) ?_
  exact m_L_law_b3450 hc hr hin hl0 hZ k28 hk28 h a0 a1 a2 a3 a4 v5 _ _ _ _ _ _ hX hf hq hn _ (lv_sub hl [0, 1, 2, 3, 4, 5] rfl)
set_option maxHeartbeats 4000000 in
set_option maxRecDepth 100000 in
theorem m_L_law_b640 {p : Program} {l : Launch} {e : Env} {s : State} {m : MethodId} {args : Array Value} {below : List Frame} {meth : Method} {c : Code} {D : va_G} {dA : Nat → ClassId} {b0 : Nat} {gs : Nat → Option Nat} (hc : zC D dA b0 gs x.cls cL_law 9 p c s m args meth) (hr : meth.sig.returnType = ret) (hin : meth.name = x.name) {r : Int32} {hh : PH} {mc ms : Nat} {L : Nat} {xs : Nat → Int32} (hl0 : l.stackTraces = false) {Q : State → Prop} (hZ : ∀ (pc : Nat) (ls : Array Slot) (H : Heap) (locs : List Loc), decode cL_law pc = .ok (.ireturn, 1) → zM D dA b0 gs s hh H locs → W p l e ({ frames := 16, cells := mc, slots := ms, locals := 3214 } : Room) s m args below meth c H locs mc ms Q (F0 m pc ls [.int r])) (k28 : PH → Nat → Nat → Nat → Nat → Nat → Int32 → ZR Int32) (hk28 : ∀ (h : PH) (a0 : Nat) (a1 : Nat) (a2 : Nat) (a3 : Nat) (a4 : Nat) (v5 : Int32) (C9 S9 : Nat) (H : Heap) (locs : List Loc) (cells slots : Nat), va_X a0 L xs s s.heap ∧ a0 < b0 → k28 h a0 a1 a2 a3 a4 v5 = some (r, hh, C9, S9) → cells + C9 = mc ∧ slots + S9 = ms → zM D dA b0 gs s h H locs → ∀ ls : Array Slot, lv_has ls 9 [(0, .ref a0), (1, .ref a1), (2, .ref a2), (3, .ref a3), (4, .ref a4), (5, .int v5)] → W p l e ({ frames := 16, cells := mc, slots := ms, locals := 3214 } : Room) s m args below meth c H locs cells slots Q (F0 m 28 ls [])) : ∀ (h : PH) (a0 : Nat) (a1 : Nat) (a2 : Nat) (a3 : Nat) (a4 : Nat) (v5 : Int32) (C9 S9 : Nat) (H : Heap) (locs : List Loc) (cells slots : Nat), va_X a0 L xs s s.heap ∧ a0 < b0 → f_L_law_b640 L xs k28 h a0 a1 a2 a3 a4 v5 = some (r, hh, C9, S9) → cells + C9 = mc ∧ slots + S9 = ms → zM D dA b0 gs s h H locs → ∀ ls : Array Slot, lv_has ls 9 [(0, .ref a0), (1, .ref a1), (2, .ref a2), (3, .ref a3), (4, .ref a4), (5, .int v5)] → W p l e ({ frames := 16, cells := mc, slots := ms, locals := 3214 } : Room) s m args below meth c H locs cells slots Q (F0 m 640 ls []) := by
  have hx := hc.x
  have hb := hc.b
  intro h a0 a1 a2 a3 a4 v5 C9 S9 H locs cells slots hX hf hq hn ls hl
  unfold f_L_law_b640 at hf
  refine lv_aload_n (x := a1) hx hb dL_law_640 rfl (lv_at hl 1 rfl) ?_
  refine lv_aload_n (x := a0) hx hb dL_law_641 rfl (lv_at hl 0 rfl) ?_
  refine lv_iload hx hb dL_law_642 (lv_at hl 5 rfl) ?_
  refine lv_iconst (v := (1 : Int32)) hx hb dL_law_644 (by decide) ?_
  refine lv_iadd hx hb dL_law_645 ?_
  refine zr_nmI hf (fun x101 hf => ?_)
  refine zr_xld hc hn hX hf dL_law_646 (fun x102 hf => ?_)
  refine lv_aload_n (x := a3) hx hb dL_law_647 rfl (lv_at hl 3 rfl) ?_
  refine zr_cSWI (As := [.ref a1, .int x102, .ref a3]) (rest := []) hc hn hq hd_X0_height (lw_SW q1175 q1176 q83 q1177) (Nat.le_of_ble_eq_true rfl) (Nat.le_of_ble_eq_true rfl) (fun _ _ _ _ q => m_X0_height l hl0 D dA b0 gs h a1 x102 a3 q) hf dL_law_648 hl.1 rfl rfl (zroom (Nat.le_of_ble_eq_true rfl)) (fun x103 h104 H locs cells slots C9 S9 hf hq hn => ?_)
  refine lv_istore (lv' := [(6, .int x103), (0, .ref a0), (1, .ref a1), (2, .ref a2), (3, .ref a3), (4, .ref a4), (5, .int v5)]) hx hb dL_law_651 hl (by decide) rfl (fun ls hl => ?_)
  refine lv_aload_n (x := a2) hx hb dL_law_653 rfl (lv_at hl 3 rfl) ?_
  refine lv_aload_n (x := a0) hx hb dL_law_654 rfl (lv_at hl 1 rfl) ?_
  refine lv_iload hx hb dL_law_655 (lv_at hl 6 rfl) ?_
  refine lv_iconst (v := (1 : Int32)) hx hb dL_law_657 (by decide) ?_
  refine lv_iadd hx hb dL_law_658 ?_
  refine zr_nmI hf (fun x105 hf => ?_)
  refine zr_xld hc hn hX hf dL_law_659 (fun x106 hf => ?_)
  refine zr_cVI (As := [.int x106]) (rest := []) hc hn hq (ci := 3) rfl ⟨rfl, hd_X4_height⟩ (lw_V q2356 q2357 q2358 q91 q2359) (Nat.le_of_ble_eq_true rfl) (Nat.le_of_ble_eq_true rfl) (fun _ _ _ _ q => m_X4_height l D dA b0 gs h104 a2 x106 q) hf dL_law_660 hl.1 rfl rfl (zroom (Nat.le_of_ble_eq_true rfl)) (fun x107 h108 H locs cells slots C9 S9 hf hq hn => ?_)
  refine lv_istore (lv' := [(7, .int x107), (6, .int x103), (0, .ref a0), (1, .ref a1), (2, .ref a2), (3, .ref a3), (4, .ref a4), (5, .int v5)]) hx hb dL_law_663 hl (by decide) rfl (fun ls hl => ?_)
  refine lv_aload_n (x := a2) hx hb dL_law_665 rfl (lv_at hl 4 rfl) ?_
  refine zr_cVI (As := []) (rest := []) hc hn hq (ci := 3) rfl ⟨rfl, hd_X4_thrown⟩ (lw_V q2195 q2196 q2197 q91 q2198) (Nat.le_of_ble_eq_true rfl) (Nat.le_of_ble_eq_true rfl) (fun _ _ _ _ q => m_X4_thrown l D dA b0 gs h108 a2 q) hf dL_law_666 hl.1 rfl rfl (zroom (Nat.le_of_ble_eq_true rfl)) (fun x109 h110 H locs cells slots C9 S9 hf hq hn => ?_)
  refine lv_iload hx hb dL_law_669 (lv_at hl 1 rfl) ?_
  refine lv_icmp_eq (tgt := 676) hx hb dL_law_671 (by decide) (fun c9 => ?_) (fun c9 => ?_)
  · have hf := zif_t c9 hf
    refine lv_iload hx hb dL_law_676 (lv_at hl 1 rfl) ?_
    refine lv_if_ne (tgt := 693) hx hb dL_law_678 (by decide) (fun c9 => ?_) (fun c9 => ?_)
    · have hf := zif_f c9 hf
      exact m_L_law_b693 hc hr hin hl0 hZ k28 hk28 h110 a0 a1 a2 a3 a4 v5 _ _ _ _ _ _ hX hf hq hn _ (lv_sub hl [2, 3, 4, 5, 6, 7] rfl)
    · have hf := zif_t c9 hf
      refine lv_aload_n (x := a3) hx hb dL_law_681 rfl (lv_at hl 5 rfl) ?_
      refine lv_iconst (v := (0 : Int32)) hx hb dL_law_682 (by decide) ?_
      refine zr_aL hc hn hf dL_law_683 (fun x111 hf => ?_)
      refine lv_iload hx hb dL_law_684 (lv_at hl 0 rfl) ?_
      refine lv_i2l (v := x107.toInt64) hx hb dL_law_686 rfl ?_
      refine zr_nmL hf (fun x112 hf => ?_)
      refine W.lcmp hx hb dL_law_687 ?_
      refine zr_nmI hf (fun x113 hf => ?_)
      refine lv_if_eq (tgt := 693) hx hb dL_law_688 (by decide) (fun c9 => ?_) (fun c9 => ?_)
      · have hf := zif_t c9 hf
        exact m_L_law_b693 hc hr hin hl0 hZ k28 hk28 h110 a0 a1 a2 a3 a4 v5 _ _ _ _ _ _ hX hf hq hn _ (lv_sub hl [2, 3, 4, 5, 6, 7] rfl)
      · have hf := zif_f c9 hf
        refine lv_iconst (v := (0 : Int32)) hx hb dL_law_691 (by decide) ?_
        obtain ⟨rfl, rfl, rfl, rfl⟩ := zret_i hf
        obtain ⟨hq1, hq2⟩ := hq
        subst hq1
        subst hq2
        exact hZ _ _ _ _ dL_law_692 hn
  · have hf := zif_f c9 hf
    refine lv_iconst (v := (0 : Int32)) hx hb dL_law_674 (by decide) ?_
    obtain ⟨rfl, rfl, rfl, rfl⟩ := zret_i hf
    obtain ⟨hq1, hq2⟩ := hq
    subst hq1
    subst hq2
    exact hZ _ _ _ _ dL_law_675 hn
set_option maxHeartbeats 4000000 in
set_option maxRecDepth 100000 in
theorem m_L_law_b761 {p : Program} {l : Launch} {e : Env} {s : State} {m : MethodId} {args : Array Value} {below : List Frame} {meth : Method} {c : Code} {D : va_G} {dA : Nat → ClassId} {b0 : Nat} {gs : Nat → Option Nat} (hc : zC D dA b0 gs x.cls cL_law 9 p c s m args meth) (hr : meth.sig.returnType = ret) (hin : meth.name = x.name) {r : Int32} {hh : PH} {mc ms : Nat} {L : Nat} {xs : Nat → Int32} (hl0 : l.stackTraces = false) {Q : State → Prop} (hZ : ∀ (pc : Nat) (ls : Array Slot) (H : Heap) (locs : List Loc), decode cL_law pc = .ok (.ireturn, 1) → zM D dA b0 gs s hh H locs → W p l e ({ frames := 16, cells := mc, slots := ms, locals := 3214 } : Room) s m args below meth c H locs mc ms Q (F0 m pc ls [.int r])) (k28 : PH → Nat → Nat → Nat → Nat → Nat → Int32 → ZR Int32) (hk28 : ∀ (h : PH) (a0 : Nat) (a1 : Nat) (a2 : Nat) (a3 : Nat) (a4 : Nat) (v5 : Int32) (C9 S9 : Nat) (H : Heap) (locs : List Loc) (cells slots : Nat), va_X a0 L xs s s.heap ∧ a0 < b0 → k28 h a0 a1 a2 a3 a4 v5 = some (r, hh, C9, S9) → cells + C9 = mc ∧ slots + S9 = ms → zM D dA b0 gs s h H locs → ∀ ls : Array Slot, lv_has ls 9 [(0, .ref a0), (1, .ref a1), (2, .ref a2), (3, .ref a3), (4, .ref a4), (5, .int v5)] → W p l e ({ frames := 16, cells := mc, slots := ms, locals := 3214 } : Room) s m args below meth c H locs cells slots Q (F0 m 28 ls [])) : ∀ (h : PH) (a0 : Nat) (a1 : Nat) (a2 : Nat) (a3 : Nat) (a4 : Nat) (v5 : Int32) (C9 S9 : Nat) (H : Heap) (locs : List Loc) (cells slots : Nat), va_X a0 L xs s s.heap ∧ a0 < b0 → f_L_law_b761 L xs k28 h a0 a1 a2 a3 a4 v5 = some (r, hh, C9, S9) → cells + C9 = mc ∧ slots + S9 = ms → zM D dA b0 gs s h H locs → ∀ ls : Array Slot, lv_has ls 9 [(0, .ref a0), (1, .ref a1), (2, .ref a2), (3, .ref a3), (4, .ref a4), (5, .int v5)] → W p l e ({ frames := 16, cells := mc, slots := ms, locals := 3214 } : Room) s m args below meth c H locs cells slots Q (F0 m 761 ls []) := by
  have hx := hc.x
  have hb := hc.b
  intro h a0 a1 a2 a3 a4 v5 C9 S9 H locs cells slots hX hf hq hn ls hl
  unfold f_L_law_b761 at hf
  refine lv_goto (tgt := 3450) hx hb dL_law_761 (by decide) ?_
  exact m_L_law_b3450 hc hr hin hl0 hZ k28 hk28 h a0 a1 a2 a3 a4 v5 _ _ _ _ _ _ hX hf hq hn _ (lv_sub hl [0, 1, 2, 3, 4, 5] rfl)
set_option maxHeartbeats 4000000 in
set_option maxRecDepth 100000 in
theorem m_L_law_b696 {p : Program} {l : Launch} {e : Env} {s : State} {m : MethodId} {args : Array Value} {below : List Frame} {meth : Method} {c : Code} {D : va_G} {dA : Nat → ClassId} {b0 : Nat} {gs : Nat → Option Nat} (hc : zC D dA b0 gs x.cls cL_law 9 p c s m args meth) (hr : meth.sig.returnType = ret) (hin : meth.name = x.name) {r : Int32} {hh : PH} {mc ms : Nat} {L : Nat} {xs : Nat → Int32} (hl0 : l.stackTraces = false) {Q : State → Prop} (hZ : ∀ (pc : Nat) (ls : Array Slot) (H : Heap) (locs : List Loc), decode cL_law pc = .ok (.ireturn, 1) → zM D dA b0 gs s hh H locs → W p l e ({ frames := 16, cells := mc, slots := ms, locals := 3214 } : Room) s m args below meth c H locs mc ms Q (F0 m pc ls [.int r])) (k28 : PH → Nat → Nat → Nat → Nat → Nat → Int32 → ZR Int32) (hk28 : ∀ (h : PH) (a0 : Nat) (a1 : Nat) (a2 : Nat) (a3 : Nat) (a4 : Nat) (v5 : Int32) (C9 S9 : Nat) (H : Heap) (locs : List Loc) (cells slots : Nat), va_X a0 L xs s s.heap ∧ a0 < b0 → k28 h a0 a1 a2 a3 a4 v5 = some (r, hh, C9, S9) → cells + C9 = mc ∧ slots + S9 = ms → zM D dA b0 gs s h H locs → ∀ ls : Array Slot, lv_has ls 9 [(0, .ref a0), (1, .ref a1), (2, .ref a2), (3, .ref a3), (4, .ref a4), (5, .int v5)] → W p l e ({ frames := 16, cells := mc, slots := ms, locals := 3214 } : Room) s m args below meth c H locs cells slots Q (F0 m 28 ls [])) : ∀ (h : PH) (a0 : Nat) (a1 : Nat) (a2 : Nat) (a3 : Nat) (a4 : Nat) (v5 : Int32) (C9 S9 : Nat) (H : Heap) (locs : List Loc) (cells slots : Nat), va_X a0 L xs s s.heap ∧ a0 < b0 → f_L_law_b696 L xs k28 h a0 a1 a2 a3 a4 v5 = some (r, hh, C9, S9) → cells + C9 = mc ∧ slots + S9 = ms → zM D dA b0 gs s h H locs → ∀ ls : Array Slot, lv_has ls 9 [(0, .ref a0), (1, .ref a1), (2, .ref a2), (3, .ref a3), (4, .ref a4), (5, .int v5)] → W p l e ({ frames := 16, cells := mc, slots := ms, locals := 3214 } : Room) s m args below meth c H locs cells slots Q (F0 m 696 ls []) := by
  have hx := hc.x
  have hb := hc.b
  intro h a0 a1 a2 a3 a4 v5 C9 S9 H locs cells slots hX hf hq hn ls hl
  unfold f_L_law_b696 at hf
  refine lv_aload_n (x := a1) hx hb dL_law_696 rfl (lv_at hl 1 rfl) ?_
  refine lv_aload_n (x := a0) hx hb dL_law_697 rfl (lv_at hl 0 rfl) ?_
  refine lv_iload hx hb dL_law_698 (lv_at hl 5 rfl) ?_
  refine lv_iconst (v := (1 : Int32)) hx hb dL_law_700 (by decide) ?_
  refine lv_iadd hx hb dL_law_701 ?_
  refine zr_nmI hf (fun x101 hf => ?_)
  refine zr_xld hc hn hX hf dL_law_702 (fun x102 hf => ?_)
  refine lv_aload_n (x := a0) hx hb dL_law_703 rfl (lv_at hl 0 rfl) ?_
  refine lv_iload hx hb dL_law_704 (lv_at hl 5 rfl) ?_
  refine lv_iconst (v := (2 : Int32)) hx hb dL_law_706 (by decide) ?_
  refine lv_iadd hx hb dL_law_707 ?_
  refine zr_nmI hf (fun x103 hf => ?_)
  refine zr_xld hc hn hX hf dL_law_708 (fun x104 hf => ?_)
  refine lv_aload_n (x := a3) hx hb dL_law_709 rfl (lv_at hl 3 rfl) ?_
  refine zr_cSWI (As := [.ref a1, .int x102, .int x104, .ref a3]) (rest := []) hc hn hq hd_X0_keyAt (lw_SW q1183 q1184 q83 q1185) (Nat.le_of_ble_eq_true rfl) (Nat.le_of_ble_eq_true rfl) (fun _ _ _ _ q => m_X0_keyAt l hl0 D dA b0 gs h a1 x102 x104 a3 q) hf dL_law_710 hl.1 rfl rfl (zroom (Nat.le_of_ble_eq_true rfl)) (fun x105 h106 H locs cells slots C9 S9 hf hq hn => ?_)
  refine lv_istore (lv' := [(6, .int x105), (0, .ref a0), (1, .ref a1), (2, .ref a2), (3, .ref a3), (4, .ref a4), (5, .int v5)]) hx hb dL_law_713 hl (by decide) rfl (fun ls hl => ?_)
  refine lv_aload_n (x := a2) hx hb dL_law_715 rfl (lv_at hl 3 rfl) ?_
  refine lv_aload_n (x := a0) hx hb dL_law_716 rfl (lv_at hl 1 rfl) ?_
  refine lv_iload hx hb dL_law_717 (lv_at hl 6 rfl) ?_
  refine lv_iconst (v := (1 : Int32)) hx hb dL_law_719 (by decide) ?_
  refine lv_iadd hx hb dL_law_720 ?_
  refine zr_nmI hf (fun x107 hf => ?_)
  refine zr_xld hc hn hX hf dL_law_721 (fun x108 hf => ?_)
  refine lv_aload_n (x := a0) hx hb dL_law_722 rfl (lv_at hl 1 rfl) ?_
  refine lv_iload hx hb dL_law_723 (lv_at hl 6 rfl) ?_
  refine lv_iconst (v := (2 : Int32)) hx hb dL_law_725 (by decide) ?_
  refine lv_iadd hx hb dL_law_726 ?_
  refine zr_nmI hf (fun x109 hf => ?_)
  refine zr_xld hc hn hX hf dL_law_727 (fun x110 hf => ?_)
  refine zr_cVI (As := [.int x108, .int x110]) (rest := []) hc hn hq (ci := 3) rfl ⟨rfl, hd_X4_keyAt⟩ (lw_V q2360 q2361 q2362 q91 q2363) (Nat.le_of_ble_eq_true rfl) (Nat.le_of_ble_eq_true rfl) (fun _ _ _ _ q => m_X4_keyAt l D dA b0 gs h106 a2 x108 x110 q) hf dL_law_728 hl.1 rfl rfl (zroom (Nat.le_of_ble_eq_true rfl)) (fun x111 h112 H locs cells slots C9 S9 hf hq hn => ?_)
  refine lv_istore (lv' := [(7, .int x111), (6, .int x105), (0, .ref a0), (1, .ref a1), (2, .ref a2), (3, .ref a3), (4, .ref a4), (5, .int v5)]) hx hb dL_law_731 hl (by decide) rfl (fun ls hl => ?_)
  refine lv_aload_n (x := a2) hx hb dL_law_733 rfl (lv_at hl 4 rfl) ?_
  refine zr_cVI (As := []) (rest := []) hc hn hq (ci := 3) rfl ⟨rfl, hd_X4_thrown⟩ (lw_V q2195 q2196 q2197 q91 q2198) (Nat.le_of_ble_eq_true rfl) (Nat.le_of_ble_eq_true rfl) (fun _ _ _ _ q => m_X4_thrown l D dA b0 gs h112 a2 q) hf dL_law_734 hl.1 rfl rfl (zroom (Nat.le_of_ble_eq_true rfl)) (fun x113 h114 H locs cells slots C9 S9 hf hq hn => ?_)
  refine lv_iload hx hb dL_law_737 (lv_at hl 1 rfl) ?_
  refine lv_icmp_eq (tgt := 744) hx hb dL_law_739 (by decide) (fun c9 => ?_) (fun c9 => ?_)
  · have hf := zif_t c9 hf
    refine lv_iload hx hb dL_law_744 (lv_at hl 1 rfl) ?_
    refine lv_if_ne (tgt := 761) hx hb dL_law_746 (by decide) (fun c9 => ?_) (fun c9 => ?_)
    · have hf := zif_f c9 hf
      exact m_L_law_b761 hc hr hin hl0 hZ k28 hk28 h114 a0 a1 a2 a3 a4 v5 _ _ _ _ _ _ hX hf hq hn _ (lv_sub hl [2, 3, 4, 5, 6, 7] rfl)
    · have hf := zif_t c9 hf
      refine lv_aload_n (x := a3) hx hb dL_law_749 rfl (lv_at hl 5 rfl) ?_
      refine lv_iconst (v := (0 : Int32)) hx hb dL_law_750 (by decide) ?_
      refine zr_aL hc hn hf dL_law_751 (fun x115 hf => ?_)
      refine lv_iload hx hb dL_law_752 (lv_at hl 0 rfl) ?_
      refine lv_i2l (v := x111.toInt64) hx hb dL_law_754 rfl ?_
      refine zr_nmL hf (fun x116 hf => ?_)
      refine W.lcmp hx hb dL_law_755 ?_
      refine zr_nmI hf (fun x117 hf => ?_)
      refine lv_if_eq (tgt := 761) hx hb dL_law_756 (by decide) (fun c9 => ?_) (fun c9 => ?_)
      · have hf := zif_t c9 hf
        exact m_L_law_b761 hc hr hin hl0 hZ k28 hk28 h114 a0 a1 a2 a3 a4 v5 _ _ _ _ _ _ hX hf hq hn _ (lv_sub hl [2, 3, 4, 5, 6, 7] rfl)
      · have hf := zif_f c9 hf
        refine lv_iconst (v := (0 : Int32)) hx hb dL_law_759 (by decide) ?_
        obtain ⟨rfl, rfl, rfl, rfl⟩ := zret_i hf
        obtain ⟨hq1, hq2⟩ := hq
        subst hq1
        subst hq2
        exact hZ _ _ _ _ dL_law_760 hn
  · have hf := zif_f c9 hf
    refine lv_iconst (v := (0 : Int32)) hx hb dL_law_742 (by decide) ?_
    obtain ⟨rfl, rfl, rfl, rfl⟩ := zret_i hf
    obtain ⟨hq1, hq2⟩ := hq
    subst hq1
    subst hq2
    exact hZ _ _ _ _ dL_law_743 hn
set_option maxHeartbeats 4000000 in
set_option maxRecDepth 100000 in
theorem m_L_law_b829 {p : Program} {l : Launch} {e : Env} {s : State} {m : MethodId} {args : Array Value} {below : List Frame} {meth : Method} {c : Code} {D : va_G} {dA : Nat → ClassId} {b0 : Nat} {gs : Nat → Option Nat} (hc : zC D dA b0 gs x.cls cL_law 9 p c s m args meth) (hr : meth.sig.returnType = ret) (hin : meth.name = x.name) {r : Int32} {hh : PH} {mc ms : Nat} {L : Nat} {xs : Nat → Int32} (hl0 : l.stackTraces = false) {Q : State → Prop} (hZ : ∀ (pc : Nat) (ls : Array Slot) (H : Heap) (locs : List Loc), decode cL_law pc = .ok (.ireturn, 1) → zM D dA b0 gs s hh H locs → W p l e ({ frames := 16, cells := mc, slots := ms, locals := 3214 } : Room) s m args below meth c H locs mc ms Q (F0 m pc ls [.int r])) (k28 : PH → Nat → Nat → Nat → Nat → Nat → Int32 → ZR Int32) (hk28 : ∀ (h : PH) (a0 : Nat) (a1 : Nat) (a2 : Nat) (a3 : Nat) (a4 : Nat) (v5 : Int32) (C9 S9 : Nat) (H : Heap) (locs : List Loc) (cells slots : Nat), va_X a0 L xs s s.heap ∧ a0 < b0 → k28 h a0 a1 a2 a3 a4 v5 = some (r, hh, C9, S9) → cells + C9 = mc ∧ slots + S9 = ms → zM D dA b0 gs s h H locs → ∀ ls : Array Slot, lv_has ls 9 [(0, .ref a0), (1, .ref a1), (2, .ref a2), (3, .ref a3), (4, .ref a4), (5, .int v5)] → W p l e ({ frames := 16, cells := mc, slots := ms, locals := 3214 } : Room) s m args below meth c H locs cells slots Q (F0 m 28 ls [])) : ∀ (h : PH) (a0 : Nat) (a1 : Nat) (a2 : Nat) (a3 : Nat) (a4 : Nat) (v5 : Int32) (C9 S9 : Nat) (H : Heap) (locs : List Loc) (cells slots : Nat), va_X a0 L xs s s.heap ∧ a0 < b0 → f_L_law_b829 L xs k28 h a0 a1 a2 a3 a4 v5 = some (r, hh, C9, S9) → cells + C9 = mc ∧ slots + S9 = ms → zM D dA b0 gs s h H locs → ∀ ls : Array Slot, lv_has ls 9 [(0, .ref a0), (1, .ref a1), (2, .ref a2), (3, .ref a3), (4, .ref a4), (5, .int v5)] → W p l e ({ frames := 16, cells := mc, slots := ms, locals := 3214 } : Room) s m args below meth c H locs cells slots Q (F0 m 829 ls []) := by
  have hx := hc.x
  have hb := hc.b
  intro h a0 a1 a2 a3 a4 v5 C9 S9 H locs cells slots hX hf hq hn ls hl
  unfold f_L_law_b829 at hf
  refine lv_goto (tgt := 3450) hx hb dL_law_829 (by decide) ?_
  exact m_L_law_b3450 hc hr hin hl0 hZ k28 hk28 h a0 a1 a2 a3 a4 v5 _ _ _ _ _ _ hX hf hq hn _ (lv_sub hl [0, 1, 2, 3, 4, 5] rfl)
set_option maxHeartbeats 4000000 in
set_option maxRecDepth 100000 in
theorem m_L_law_b764 {p : Program} {l : Launch} {e : Env} {s : State} {m : MethodId} {args : Array Value} {below : List Frame} {meth : Method} {c : Code} {D : va_G} {dA : Nat → ClassId} {b0 : Nat} {gs : Nat → Option Nat} (hc : zC D dA b0 gs x.cls cL_law 9 p c s m args meth) (hr : meth.sig.returnType = ret) (hin : meth.name = x.name) {r : Int32} {hh : PH} {mc ms : Nat} {L : Nat} {xs : Nat → Int32} (hl0 : l.stackTraces = false) {Q : State → Prop} (hZ : ∀ (pc : Nat) (ls : Array Slot) (H : Heap) (locs : List Loc), decode cL_law pc = .ok (.ireturn, 1) → zM D dA b0 gs s hh H locs → W p l e ({ frames := 16, cells := mc, slots := ms, locals := 3214 } : Room) s m args below meth c H locs mc ms Q (F0 m pc ls [.int r])) (k28 : PH → Nat → Nat → Nat → Nat → Nat → Int32 → ZR Int32) (hk28 : ∀ (h : PH) (a0 : Nat) (a1 : Nat) (a2 : Nat) (a3 : Nat) (a4 : Nat) (v5 : Int32) (C9 S9 : Nat) (H : Heap) (locs : List Loc) (cells slots : Nat), va_X a0 L xs s s.heap ∧ a0 < b0 → k28 h a0 a1 a2 a3 a4 v5 = some (r, hh, C9, S9) → cells + C9 = mc ∧ slots + S9 = ms → zM D dA b0 gs s h H locs → ∀ ls : Array Slot, lv_has ls 9 [(0, .ref a0), (1, .ref a1), (2, .ref a2), (3, .ref a3), (4, .ref a4), (5, .int v5)] → W p l e ({ frames := 16, cells := mc, slots := ms, locals := 3214 } : Room) s m args below meth c H locs cells slots Q (F0 m 28 ls [])) : ∀ (h : PH) (a0 : Nat) (a1 : Nat) (a2 : Nat) (a3 : Nat) (a4 : Nat) (v5 : Int32) (C9 S9 : Nat) (H : Heap) (locs : List Loc) (cells slots : Nat), va_X a0 L xs s s.heap ∧ a0 < b0 → f_L_law_b764 L xs k28 h a0 a1 a2 a3 a4 v5 = some (r, hh, C9, S9) → cells + C9 = mc ∧ slots + S9 = ms → zM D dA b0 gs s h H locs → ∀ ls : Array Slot, lv_has ls 9 [(0, .ref a0), (1, .ref a1), (2, .ref a2), (3, .ref a3), (4, .ref a4), (5, .int v5)] → W p l e ({ frames := 16, cells := mc, slots := ms, locals := 3214 } : Room) s m args below meth c H locs cells slots Q (F0 m 764 ls []) := by
  have hx := hc.x
  have hb := hc.b
  intro h a0 a1 a2 a3 a4 v5 C9 S9 H locs cells slots hX hf hq hn ls hl
  unfold f_L_law_b764 at hf
  refine lv_aload_n (x := a1) hx hb dL_law_764 rfl (lv_at hl 1 rfl) ?_
  refine lv_aload_n (x := a0) hx hb dL_law_765 rfl (lv_at hl 0 rfl) ?_
  refine lv_iload hx hb dL_law_766 (lv_at hl 5 rfl) ?_
  refine lv_iconst (v := (1 : Int32)) hx hb dL_law_768 (by decide) ?_
  refine lv_iadd hx hb dL_law_769 ?_
  refine zr_nmI hf (fun x101 hf => ?_)
  refine zr_xld hc hn hX hf dL_law_770 (fun x102 hf => ?_)
  refine lv_aload_n (x := a0) hx hb dL_law_771 rfl (lv_at hl 0 rfl) ?_
  refine lv_iload hx hb dL_law_772 (lv_at hl 5 rfl) ?_
  refine lv_iconst (v := (2 : Int32)) hx hb dL_law_774 (by decide) ?_
  refine lv_iadd hx hb dL_law_775 ?_
  refine zr_nmI hf (fun x103 hf => ?_)
  refine zr_xld hc hn hX hf dL_law_776 (fun x104 hf => ?_)
  refine lv_aload_n (x := a3) hx hb dL_law_777 rfl (lv_at hl 3 rfl) ?_
  refine zr_cSWI (As := [.ref a1, .int x102, .int x104, .ref a3]) (rest := []) hc hn hq hd_X0_valueAt (lw_SW q1198 q1199 q83 q1200) (Nat.le_of_ble_eq_true rfl) (Nat.le_of_ble_eq_true rfl) (fun _ _ _ _ q => m_X0_valueAt l hl0 D dA b0 gs h a1 x102 x104 a3 q) hf dL_law_778 hl.1 rfl rfl (zroom (Nat.le_of_ble_eq_true rfl)) (fun x105 h106 H locs cells slots C9 S9 hf hq hn => ?_)
  refine lv_istore (lv' := [(6, .int x105), (0, .ref a0), (1, .ref a1), (2, .ref a2), (3, .ref a3), (4, .ref a4), (5, .int v5)]) hx hb dL_law_781 hl (by decide) rfl (fun ls hl => ?_)
  refine lv_aload_n (x := a2) hx hb dL_law_783 rfl (lv_at hl 3 rfl) ?_
  refine lv_aload_n (x := a0) hx hb dL_law_784 rfl (lv_at hl 1 rfl) ?_
  refine lv_iload hx hb dL_law_785 (lv_at hl 6 rfl) ?_
  refine lv_iconst (v := (1 : Int32)) hx hb dL_law_787 (by decide) ?_
  refine lv_iadd hx hb dL_law_788 ?_
  refine zr_nmI hf (fun x107 hf => ?_)
  refine zr_xld hc hn hX hf dL_law_789 (fun x108 hf => ?_)
  refine lv_aload_n (x := a0) hx hb dL_law_790 rfl (lv_at hl 1 rfl) ?_
  refine lv_iload hx hb dL_law_791 (lv_at hl 6 rfl) ?_
  refine lv_iconst (v := (2 : Int32)) hx hb dL_law_793 (by decide) ?_
  refine lv_iadd hx hb dL_law_794 ?_
  refine zr_nmI hf (fun x109 hf => ?_)
  refine zr_xld hc hn hX hf dL_law_795 (fun x110 hf => ?_)
  refine zr_cVI (As := [.int x108, .int x110]) (rest := []) hc hn hq (ci := 3) rfl ⟨rfl, hd_X4_valueAt⟩ (lw_V q2372 q2373 q2374 q91 q2375) (Nat.le_of_ble_eq_true rfl) (Nat.le_of_ble_eq_true rfl) (fun _ _ _ _ q => m_X4_valueAt l D dA b0 gs h106 a2 x108 x110 q) hf dL_law_796 hl.1 rfl rfl (zroom (Nat.le_of_ble_eq_true rfl)) (fun x111 h112 H locs cells slots C9 S9 hf hq hn => ?_)
  refine lv_istore (lv' := [(7, .int x111), (6, .int x105), (0, .ref a0), (1, .ref a1), (2, .ref a2), (3, .ref a3), (4, .ref a4), (5, .int v5)]) hx hb dL_law_799 hl (by decide) rfl (fun ls hl => ?_)
  refine lv_aload_n (x := a2) hx hb dL_law_801 rfl (lv_at hl 4 rfl) ?_
  refine zr_cVI (As := []) (rest := []) hc hn hq (ci := 3) rfl ⟨rfl, hd_X4_thrown⟩ (lw_V q2195 q2196 q2197 q91 q2198) (Nat.le_of_ble_eq_true rfl) (Nat.le_of_ble_eq_true rfl) (fun _ _ _ _ q => m_X4_thrown l D dA b0 gs h112 a2 q) hf dL_law_802 hl.1 rfl rfl (zroom (Nat.le_of_ble_eq_true rfl)) (fun x113 h114 H locs cells slots C9 S9 hf hq hn => ?_)
  refine lv_iload hx hb dL_law_805 (lv_at hl 1 rfl) ?_
  refine lv_icmp_eq (tgt := 812) hx hb dL_law_807 (by decide) (fun c9 => ?_) (fun c9 => ?_)
  · have hf := zif_t c9 hf
    refine lv_iload hx hb dL_law_812 (lv_at hl 1 rfl) ?_
    refine lv_if_ne (tgt := 829) hx hb dL_law_814 (by decide) (fun c9 => ?_) (fun c9 => ?_)
    · have hf := zif_f c9 hf
      exact m_L_law_b829 hc hr hin hl0 hZ k28 hk28 h114 a0 a1 a2 a3 a4 v5 _ _ _ _ _ _ hX hf hq hn _ (lv_sub hl [2, 3, 4, 5, 6, 7] rfl)
    · have hf := zif_t c9 hf
      refine lv_aload_n (x := a3) hx hb dL_law_817 rfl (lv_at hl 5 rfl) ?_
      refine lv_iconst (v := (0 : Int32)) hx hb dL_law_818 (by decide) ?_
      refine zr_aL hc hn hf dL_law_819 (fun x115 hf => ?_)
      refine lv_iload hx hb dL_law_820 (lv_at hl 0 rfl) ?_
      refine lv_i2l (v := x111.toInt64) hx hb dL_law_822 rfl ?_
      refine zr_nmL hf (fun x116 hf => ?_)
      refine W.lcmp hx hb dL_law_823 ?_
      refine zr_nmI hf (fun x117 hf => ?_)
      refine lv_if_eq (tgt := 829) hx hb dL_law_824 (by decide) (fun c9 => ?_) (fun c9 => ?_)
      · have hf := zif_t c9 hf
        exact m_L_law_b829 hc hr hin hl0 hZ k28 hk28 h114 a0 a1 a2 a3 a4 v5 _ _ _ _ _ _ hX hf hq hn _ (lv_sub hl [2, 3, 4, 5, 6, 7] rfl)
      · have hf := zif_f c9 hf
        refine lv_iconst (v := (0 : Int32)) hx hb dL_law_827 (by decide) ?_
        obtain ⟨rfl, rfl, rfl, rfl⟩ := zret_i hf
        obtain ⟨hq1, hq2⟩ := hq
        subst hq1
        subst hq2
        exact hZ _ _ _ _ dL_law_828 hn
  · have hf := zif_f c9 hf
    refine lv_iconst (v := (0 : Int32)) hx hb dL_law_810 (by decide) ?_
    obtain ⟨rfl, rfl, rfl, rfl⟩ := zret_i hf
    obtain ⟨hq1, hq2⟩ := hq
    subst hq1
    subst hq2
    exact hZ _ _ _ _ dL_law_811 hn
set_option maxHeartbeats 4000000 in
set_option maxRecDepth 100000 in
theorem m_L_law_b897 {p : Program} {l : Launch} {e : Env} {s : State} {m : MethodId} {args : Array Value} {below : List Frame} {meth : Method} {c : Code} {D : va_G} {dA : Nat → ClassId} {b0 : Nat} {gs : Nat → Option Nat} (hc : zC D dA b0 gs x.cls cL_law 9 p c s m args meth) (hr : meth.sig.returnType = ret) (hin : meth.name = x.name) {r : Int32} {hh : PH} {mc ms : Nat} {L : Nat} {xs : Nat → Int32} (hl0 : l.stackTraces = false) {Q : State → Prop} (hZ : ∀ (pc : Nat) (ls : Array Slot) (H : Heap) (locs : List Loc), decode cL_law pc = .ok (.ireturn, 1) → zM D dA b0 gs s hh H locs → W p l e ({ frames := 16, cells := mc, slots := ms, locals := 3214 } : Room) s m args below meth c H locs mc ms Q (F0 m pc ls [.int r])) (k28 : PH → Nat → Nat → Nat → Nat → Nat → Int32 → ZR Int32) (hk28 : ∀ (h : PH) (a0 : Nat) (a1 : Nat) (a2 : Nat) (a3 : Nat) (a4 : Nat) (v5 : Int32) (C9 S9 : Nat) (H : Heap) (locs : List Loc) (cells slots : Nat), va_X a0 L xs s s.heap ∧ a0 < b0 → k28 h a0 a1 a2 a3 a4 v5 = some (r, hh, C9, S9) → cells + C9 = mc ∧ slots + S9 = ms → zM D dA b0 gs s h H locs → ∀ ls : Array Slot, lv_has ls 9 [(0, .ref a0), (1, .ref a1), (2, .ref a2), (3, .ref a3), (4, .ref a4), (5, .int v5)] → W p l e ({ frames := 16, cells := mc, slots := ms, locals := 3214 } : Room) s m args below meth c H locs cells slots Q (F0 m 28 ls [])) : ∀ (h : PH) (a0 : Nat) (a1 : Nat) (a2 : Nat) (a3 : Nat) (a4 : Nat) (v5 : Int32) (C9 S9 : Nat) (H : Heap) (locs : List Loc) (cells slots : Nat), va_X a0 L xs s s.heap ∧ a0 < b0 → f_L_law_b897 L xs k28 h a0 a1 a2 a3 a4 v5 = some (r, hh, C9, S9) → cells + C9 = mc ∧ slots + S9 = ms → zM D dA b0 gs s h H locs → ∀ ls : Array Slot, lv_has ls 9 [(0, .ref a0), (1, .ref a1), (2, .ref a2), (3, .ref a3), (4, .ref a4), (5, .int v5)] → W p l e ({ frames := 16, cells := mc, slots := ms, locals := 3214 } : Room) s m args below meth c H locs cells slots Q (F0 m 897 ls []) := by
  have hx := hc.x
  have hb := hc.b
  intro h a0 a1 a2 a3 a4 v5 C9 S9 H locs cells slots hX hf hq hn ls hl
  unfold f_L_law_b897 at hf
  refine lv_goto (tgt := 3450) hx hb dL_law_897 (by decide) ?_
  exact m_L_law_b3450 hc hr hin hl0 hZ k28 hk28 h a0 a1 a2 a3 a4 v5 _ _ _ _ _ _ hX hf hq hn _ (lv_sub hl [0, 1, 2, 3, 4, 5] rfl)
set_option maxHeartbeats 4000000 in
set_option maxRecDepth 100000 in
theorem m_L_law_b832 {p : Program} {l : Launch} {e : Env} {s : State} {m : MethodId} {args : Array Value} {below : List Frame} {meth : Method} {c : Code} {D : va_G} {dA : Nat → ClassId} {b0 : Nat} {gs : Nat → Option Nat} (hc : zC D dA b0 gs x.cls cL_law 9 p c s m args meth) (hr : meth.sig.returnType = ret) (hin : meth.name = x.name) {r : Int32} {hh : PH} {mc ms : Nat} {L : Nat} {xs : Nat → Int32} (hl0 : l.stackTraces = false) {Q : State → Prop} (hZ : ∀ (pc : Nat) (ls : Array Slot) (H : Heap) (locs : List Loc), decode cL_law pc = .ok (.ireturn, 1) → zM D dA b0 gs s hh H locs → W p l e ({ frames := 16, cells := mc, slots := ms, locals := 3214 } : Room) s m args below meth c H locs mc ms Q (F0 m pc ls [.int r])) (k28 : PH → Nat → Nat → Nat → Nat → Nat → Int32 → ZR Int32) (hk28 : ∀ (h : PH) (a0 : Nat) (a1 : Nat) (a2 : Nat) (a3 : Nat) (a4 : Nat) (v5 : Int32) (C9 S9 : Nat) (H : Heap) (locs : List Loc) (cells slots : Nat), va_X a0 L xs s s.heap ∧ a0 < b0 → k28 h a0 a1 a2 a3 a4 v5 = some (r, hh, C9, S9) → cells + C9 = mc ∧ slots + S9 = ms → zM D dA b0 gs s h H locs → ∀ ls : Array Slot, lv_has ls 9 [(0, .ref a0), (1, .ref a1), (2, .ref a2), (3, .ref a3), (4, .ref a4), (5, .int v5)] → W p l e ({ frames := 16, cells := mc, slots := ms, locals := 3214 } : Room) s m args below meth c H locs cells slots Q (F0 m 28 ls [])) : ∀ (h : PH) (a0 : Nat) (a1 : Nat) (a2 : Nat) (a3 : Nat) (a4 : Nat) (v5 : Int32) (C9 S9 : Nat) (H : Heap) (locs : List Loc) (cells slots : Nat), va_X a0 L xs s s.heap ∧ a0 < b0 → f_L_law_b832 L xs k28 h a0 a1 a2 a3 a4 v5 = some (r, hh, C9, S9) → cells + C9 = mc ∧ slots + S9 = ms → zM D dA b0 gs s h H locs → ∀ ls : Array Slot, lv_has ls 9 [(0, .ref a0), (1, .ref a1), (2, .ref a2), (3, .ref a3), (4, .ref a4), (5, .int v5)] → W p l e ({ frames := 16, cells := mc, slots := ms, locals := 3214 } : Room) s m args below meth c H locs cells slots Q (F0 m 832 ls []) := by
  have hx := hc.x
  have hb := hc.b
  intro h a0 a1 a2 a3 a4 v5 C9 S9 H locs cells slots hX hf hq hn ls hl
  unfold f_L_law_b832 at hf
  refine lv_aload_n (x := a1) hx hb dL_law_832 rfl (lv_at hl 1 rfl) ?_
  refine lv_aload_n (x := a0) hx hb dL_law_833 rfl (lv_at hl 0 rfl) ?_
  refine lv_iload hx hb dL_law_834 (lv_at hl 5 rfl) ?_
  refine lv_iconst (v := (1 : Int32)) hx hb dL_law_836 (by decide) ?_
  refine lv_iadd hx hb dL_law_837 ?_
  refine zr_nmI hf (fun x101 hf => ?_)
  refine zr_xld hc hn hX hf dL_law_838 (fun x102 hf => ?_)
  refine lv_aload_n (x := a0) hx hb dL_law_839 rfl (lv_at hl 0 rfl) ?_
  refine lv_iload hx hb dL_law_840 (lv_at hl 5 rfl) ?_
  refine lv_iconst (v := (2 : Int32)) hx hb dL_law_842 (by decide) ?_
  refine lv_iadd hx hb dL_law_843 ?_
  refine zr_nmI hf (fun x103 hf => ?_)
  refine zr_xld hc hn hX hf dL_law_844 (fun x104 hf => ?_)
  refine lv_aload_n (x := a3) hx hb dL_law_845 rfl (lv_at hl 3 rfl) ?_
  refine zr_cSWI (As := [.ref a1, .int x102, .int x104, .ref a3]) (rest := []) hc hn hq hd_X0_heightAt (lw_SW q1205 q1206 q83 q1207) (Nat.le_of_ble_eq_true rfl) (Nat.le_of_ble_eq_true rfl) (fun _ _ _ _ q => m_X0_heightAt l hl0 D dA b0 gs h a1 x102 x104 a3 q) hf dL_law_846 hl.1 rfl rfl (zroom (Nat.le_of_ble_eq_true rfl)) (fun x105 h106 H locs cells slots C9 S9 hf hq hn => ?_)
  refine lv_istore (lv' := [(6, .int x105), (0, .ref a0), (1, .ref a1), (2, .ref a2), (3, .ref a3), (4, .ref a4), (5, .int v5)]) hx hb dL_law_849 hl (by decide) rfl (fun ls hl => ?_)
  refine lv_aload_n (x := a2) hx hb dL_law_851 rfl (lv_at hl 3 rfl) ?_
  refine lv_aload_n (x := a0) hx hb dL_law_852 rfl (lv_at hl 1 rfl) ?_
  refine lv_iload hx hb dL_law_853 (lv_at hl 6 rfl) ?_
  refine lv_iconst (v := (1 : Int32)) hx hb dL_law_855 (by decide) ?_
  refine lv_iadd hx hb dL_law_856 ?_
  refine zr_nmI hf (fun x107 hf => ?_)
  refine zr_xld hc hn hX hf dL_law_857 (fun x108 hf => ?_)
  refine lv_aload_n (x := a0) hx hb dL_law_858 rfl (lv_at hl 1 rfl) ?_
  refine lv_iload hx hb dL_law_859 (lv_at hl 6 rfl) ?_
  refine lv_iconst (v := (2 : Int32)) hx hb dL_law_861 (by decide) ?_
  refine lv_iadd hx hb dL_law_862 ?_
  refine zr_nmI hf (fun x109 hf => ?_)
  refine zr_xld hc hn hX hf dL_law_863 (fun x110 hf => ?_)
  refine zr_cVI (As := [.int x108, .int x110]) (rest := []) hc hn hq (ci := 3) rfl ⟨rfl, hd_X4_heightAt⟩ (lw_V q2376 q2377 q2378 q91 q2379) (Nat.le_of_ble_eq_true rfl) (Nat.le_of_ble_eq_true rfl) (fun _ _ _ _ q => m_X4_heightAt l D dA b0 gs h106 a2 x108 x110 q) hf dL_law_864 hl.1 rfl rfl (zroom (Nat.le_of_ble_eq_true rfl)) (fun x111 h112 H locs cells slots C9 S9 hf hq hn => ?_)
  refine lv_istore (lv' := [(7, .int x111), (6, .int x105), (0, .ref a0), (1, .ref a1), (2, .ref a2), (3, .ref a3), (4, .ref a4), (5, .int v5)]) hx hb dL_law_867 hl (by decide) rfl (fun ls hl => ?_)
  refine lv_aload_n (x := a2) hx hb dL_law_869 rfl (lv_at hl 4 rfl) ?_
  refine zr_cVI (As := []) (rest := []) hc hn hq (ci := 3) rfl ⟨rfl, hd_X4_thrown⟩ (lw_V q2195 q2196 q2197 q91 q2198) (Nat.le_of_ble_eq_true rfl) (Nat.le_of_ble_eq_true rfl) (fun _ _ _ _ q => m_X4_thrown l D dA b0 gs h112 a2 q) hf dL_law_870 hl.1 rfl rfl (zroom (Nat.le_of_ble_eq_true rfl)) (fun x113 h114 H locs cells slots C9 S9 hf hq hn => ?_)
  refine lv_iload hx hb dL_law_873 (lv_at hl 1 rfl) ?_
  refine lv_icmp_eq (tgt := 880) hx hb dL_law_875 (by decide) (fun c9 => ?_) (fun c9 => ?_)
  · have hf := zif_t c9 hf
    refine lv_iload hx hb dL_law_880 (lv_at hl 1 rfl) ?_
    refine lv_if_ne (tgt := 897) hx hb dL_law_882 (by decide) (fun c9 => ?_) (fun c9 => ?_)
    · have hf := zif_f c9 hf
      exact m_L_law_b897 hc hr hin hl0 hZ k28 hk28 h114 a0 a1 a2 a3 a4 v5 _ _ _ _ _ _ hX hf hq hn _ (lv_sub hl [2, 3, 4, 5, 6, 7] rfl)
    · have hf := zif_t c9 hf
      refine lv_aload_n (x := a3) hx hb dL_law_885 rfl (lv_at hl 5 rfl) ?_
      refine lv_iconst (v := (0 : Int32)) hx hb dL_law_886 (by decide) ?_
      refine zr_aL hc hn hf dL_law_887 (fun x115 hf => ?_)
      refine lv_iload hx hb dL_law_888 (lv_at hl 0 rfl) ?_
      refine lv_i2l (v := x111.toInt64) hx hb dL_law_890 rfl ?_
      refine zr_nmL hf (fun x116 hf => ?_)
      refine W.lcmp hx hb dL_law_891 ?_
      refine zr_nmI hf (fun x117 hf => ?_)
      refine lv_if_eq (tgt := 897) hx hb dL_law_892 (by decide) (fun c9 => ?_) (fun c9 => ?_)
      · have hf := zif_t c9 hf
        exact m_L_law_b897 hc hr hin hl0 hZ k28 hk28 h114 a0 a1 a2 a3 a4 v5 _ _ _ _ _ _ hX hf hq hn _ (lv_sub hl [2, 3, 4, 5, 6, 7] rfl)
      · have hf := zif_f c9 hf
        refine lv_iconst (v := (0 : Int32)) hx hb dL_law_895 (by decide) ?_
        obtain ⟨rfl, rfl, rfl, rfl⟩ := zret_i hf
        obtain ⟨hq1, hq2⟩ := hq
        subst hq1
        subst hq2
        exact hZ _ _ _ _ dL_law_896 hn
  · have hf := zif_f c9 hf
    refine lv_iconst (v := (0 : Int32)) hx hb dL_law_878 (by decide) ?_
    obtain ⟨rfl, rfl, rfl, rfl⟩ := zret_i hf
    obtain ⟨hq1, hq2⟩ := hq
    subst hq1
    subst hq2
    exact hZ _ _ _ _ dL_law_879 hn
set_option maxHeartbeats 4000000 in
set_option maxRecDepth 100000 in
theorem m_L_law_b965 {p : Program} {l : Launch} {e : Env} {s : State} {m : MethodId} {args : Array Value} {below : List Frame} {meth : Method} {c : Code} {D : va_G} {dA : Nat → ClassId} {b0 : Nat} {gs : Nat → Option Nat} (hc : zC D dA b0 gs x.cls cL_law 9 p c s m args meth) (hr : meth.sig.returnType = ret) (hin : meth.name = x.name) {r : Int32} {hh : PH} {mc ms : Nat} {L : Nat} {xs : Nat → Int32} (hl0 : l.stackTraces = false) {Q : State → Prop} (hZ : ∀ (pc : Nat) (ls : Array Slot) (H : Heap) (locs : List Loc), decode cL_law pc = .ok (.ireturn, 1) → zM D dA b0 gs s hh H locs → W p l e ({ frames := 16, cells := mc, slots := ms, locals := 3214 } : Room) s m args below meth c H locs mc ms Q (F0 m pc ls [.int r])) (k28 : PH → Nat → Nat → Nat → Nat → Nat → Int32 → ZR Int32) (hk28 : ∀ (h : PH) (a0 : Nat) (a1 : Nat) (a2 : Nat) (a3 : Nat) (a4 : Nat) (v5 : Int32) (C9 S9 : Nat) (H : Heap) (locs : List Loc) (cells slots : Nat), va_X a0 L xs s s.heap ∧ a0 < b0 → k28 h a0 a1 a2 a3 a4 v5 = some (r, hh, C9, S9) → cells + C9 = mc ∧ slots + S9 = ms → zM D dA b0 gs s h H locs → ∀ ls : Array Slot, lv_has ls 9 [(0, .ref a0), (1, .ref a1), (2, .ref a2), (3, .ref a3), (4, .ref a4), (5, .int v5)] → W p l e ({ frames := 16, cells := mc, slots := ms, locals := 3214 } : Room) s m args below meth c H locs cells slots Q (F0 m 28 ls [])) : ∀ (h : PH) (a0 : Nat) (a1 : Nat) (a2 : Nat) (a3 : Nat) (a4 : Nat) (v5 : Int32) (C9 S9 : Nat) (H : Heap) (locs : List Loc) (cells slots : Nat), va_X a0 L xs s s.heap ∧ a0 < b0 → f_L_law_b965 L xs k28 h a0 a1 a2 a3 a4 v5 = some (r, hh, C9, S9) → cells + C9 = mc ∧ slots + S9 = ms → zM D dA b0 gs s h H locs → ∀ ls : Array Slot, lv_has ls 9 [(0, .ref a0), (1, .ref a1), (2, .ref a2), (3, .ref a3), (4, .ref a4), (5, .int v5)] → W p l e ({ frames := 16, cells := mc, slots := ms, locals := 3214 } : Room) s m args below meth c H locs cells slots Q (F0 m 965 ls []) := by
  have hx := hc.x
  have hb := hc.b
  intro h a0 a1 a2 a3 a4 v5 C9 S9 H locs cells slots hX hf hq hn ls hl
  unfold f_L_law_b965 at hf
  refine lv_goto (tgt := 3450) hx hb dL_law_965 (by decide) ?_
  exact m_L_law_b3450 hc hr hin hl0 hZ k28 hk28 h a0 a1 a2 a3 a4 v5 _ _ _ _ _ _ hX hf hq hn _ (lv_sub hl [0, 1, 2, 3, 4, 5] rfl)
set_option maxHeartbeats 4000000 in
set_option maxRecDepth 100000 in
theorem m_L_law_b900 {p : Program} {l : Launch} {e : Env} {s : State} {m : MethodId} {args : Array Value} {below : List Frame} {meth : Method} {c : Code} {D : va_G} {dA : Nat → ClassId} {b0 : Nat} {gs : Nat → Option Nat} (hc : zC D dA b0 gs x.cls cL_law 9 p c s m args meth) (hr : meth.sig.returnType = ret) (hin : meth.name = x.name) {r : Int32} {hh : PH} {mc ms : Nat} {L : Nat} {xs : Nat → Int32} (hl0 : l.stackTraces = false) {Q : State → Prop} (hZ : ∀ (pc : Nat) (ls : Array Slot) (H : Heap) (locs : List Loc), decode cL_law pc = .ok (.ireturn, 1) → zM D dA b0 gs s hh H locs → W p l e ({ frames := 16, cells := mc, slots := ms, locals := 3214 } : Room) s m args below meth c H locs mc ms Q (F0 m pc ls [.int r])) (k28 : PH → Nat → Nat → Nat → Nat → Nat → Int32 → ZR Int32) (hk28 : ∀ (h : PH) (a0 : Nat) (a1 : Nat) (a2 : Nat) (a3 : Nat) (a4 : Nat) (v5 : Int32) (C9 S9 : Nat) (H : Heap) (locs : List Loc) (cells slots : Nat), va_X a0 L xs s s.heap ∧ a0 < b0 → k28 h a0 a1 a2 a3 a4 v5 = some (r, hh, C9, S9) → cells + C9 = mc ∧ slots + S9 = ms → zM D dA b0 gs s h H locs → ∀ ls : Array Slot, lv_has ls 9 [(0, .ref a0), (1, .ref a1), (2, .ref a2), (3, .ref a3), (4, .ref a4), (5, .int v5)] → W p l e ({ frames := 16, cells := mc, slots := ms, locals := 3214 } : Room) s m args below meth c H locs cells slots Q (F0 m 28 ls [])) : ∀ (h : PH) (a0 : Nat) (a1 : Nat) (a2 : Nat) (a3 : Nat) (a4 : Nat) (v5 : Int32) (C9 S9 : Nat) (H : Heap) (locs : List Loc) (cells slots : Nat), va_X a0 L xs s s.heap ∧ a0 < b0 → f_L_law_b900 L xs k28 h a0 a1 a2 a3 a4 v5 = some (r, hh, C9, S9) → cells + C9 = mc ∧ slots + S9 = ms → zM D dA b0 gs s h H locs → ∀ ls : Array Slot, lv_has ls 9 [(0, .ref a0), (1, .ref a1), (2, .ref a2), (3, .ref a3), (4, .ref a4), (5, .int v5)] → W p l e ({ frames := 16, cells := mc, slots := ms, locals := 3214 } : Room) s m args below meth c H locs cells slots Q (F0 m 900 ls []) := by
  have hx := hc.x
  have hb := hc.b
  intro h a0 a1 a2 a3 a4 v5 C9 S9 H locs cells slots hX hf hq hn ls hl
  unfold f_L_law_b900 at hf
  refine lv_aload_n (x := a1) hx hb dL_law_900 rfl (lv_at hl 1 rfl) ?_
  refine lv_aload_n (x := a0) hx hb dL_law_901 rfl (lv_at hl 0 rfl) ?_
  refine lv_iload hx hb dL_law_902 (lv_at hl 5 rfl) ?_
  refine lv_iconst (v := (1 : Int32)) hx hb dL_law_904 (by decide) ?_
  refine lv_iadd hx hb dL_law_905 ?_
  refine zr_nmI hf (fun x101 hf => ?_)
  refine zr_xld hc hn hX hf dL_law_906 (fun x102 hf => ?_)
  refine lv_aload_n (x := a0) hx hb dL_law_907 rfl (lv_at hl 0 rfl) ?_
  refine lv_iload hx hb dL_law_908 (lv_at hl 5 rfl) ?_
  refine lv_iconst (v := (2 : Int32)) hx hb dL_law_910 (by decide) ?_
  refine lv_iadd hx hb dL_law_911 ?_
  refine zr_nmI hf (fun x103 hf => ?_)
  refine zr_xld hc hn hX hf dL_law_912 (fun x104 hf => ?_)
  refine lv_aload_n (x := a3) hx hb dL_law_913 rfl (lv_at hl 3 rfl) ?_
  refine zr_cSWI (As := [.ref a1, .int x102, .int x104, .ref a3]) (rest := []) hc hn hq hd_X0_value (lw_SW q1212 q1213 q83 q1214) (Nat.le_of_ble_eq_true rfl) (Nat.le_of_ble_eq_true rfl) (fun _ _ _ _ q => m_X0_value l hl0 D dA b0 gs h a1 x102 x104 a3 q) hf dL_law_914 hl.1 rfl rfl (zroom (Nat.le_of_ble_eq_true rfl)) (fun x105 h106 H locs cells slots C9 S9 hf hq hn => ?_)
  refine lv_istore (lv' := [(6, .int x105), (0, .ref a0), (1, .ref a1), (2, .ref a2), (3, .ref a3), (4, .ref a4), (5, .int v5)]) hx hb dL_law_917 hl (by decide) rfl (fun ls hl => ?_)
  refine lv_aload_n (x := a2) hx hb dL_law_919 rfl (lv_at hl 3 rfl) ?_
  refine lv_aload_n (x := a0) hx hb dL_law_920 rfl (lv_at hl 1 rfl) ?_
  refine lv_iload hx hb dL_law_921 (lv_at hl 6 rfl) ?_
  refine lv_iconst (v := (1 : Int32)) hx hb dL_law_923 (by decide) ?_
  refine lv_iadd hx hb dL_law_924 ?_
  refine zr_nmI hf (fun x107 hf => ?_)
  refine zr_xld hc hn hX hf dL_law_925 (fun x108 hf => ?_)
  refine lv_aload_n (x := a0) hx hb dL_law_926 rfl (lv_at hl 1 rfl) ?_
  refine lv_iload hx hb dL_law_927 (lv_at hl 6 rfl) ?_
  refine lv_iconst (v := (2 : Int32)) hx hb dL_law_929 (by decide) ?_
  refine lv_iadd hx hb dL_law_930 ?_
  refine zr_nmI hf (fun x109 hf => ?_)
  refine zr_xld hc hn hX hf dL_law_931 (fun x110 hf => ?_)
  refine zr_cVI (As := [.int x108, .int x110]) (rest := []) hc hn hq (ci := 3) rfl ⟨rfl, hd_X4_value⟩ (lw_V q2380 q2381 q2382 q91 q2383) (Nat.le_of_ble_eq_true rfl) (Nat.le_of_ble_eq_true rfl) (fun _ _ _ _ q => m_X4_value l D dA b0 gs h106 a2 x108 x110 q) hf dL_law_932 hl.1 rfl rfl (zroom (Nat.le_of_ble_eq_true rfl)) (fun x111 h112 H locs cells slots C9 S9 hf hq hn => ?_)
  refine lv_istore (lv' := [(7, .int x111), (6, .int x105), (0, .ref a0), (1, .ref a1), (2, .ref a2), (3, .ref a3), (4, .ref a4), (5, .int v5)]) hx hb dL_law_935 hl (by decide) rfl (fun ls hl => ?_)
  refine lv_aload_n (x := a2) hx hb dL_law_937 rfl (lv_at hl 4 rfl) ?_
  refine zr_cVI (As := []) (rest := []) hc hn hq (ci := 3) rfl ⟨rfl, hd_X4_thrown⟩ (lw_V q2195 q2196 q2197 q91 q2198) (Nat.le_of_ble_eq_true rfl) (Nat.le_of_ble_eq_true rfl) (fun _ _ _ _ q => m_X4_thrown l D dA b0 gs h112 a2 q) hf dL_law_938 hl.1 rfl rfl (zroom (Nat.le_of_ble_eq_true rfl)) (fun x113 h114 H locs cells slots C9 S9 hf hq hn => ?_)
  refine lv_iload hx hb dL_law_941 (lv_at hl 1 rfl) ?_
  refine lv_icmp_eq (tgt := 948) hx hb dL_law_943 (by decide) (fun c9 => ?_) (fun c9 => ?_)
  · have hf := zif_t c9 hf
    refine lv_iload hx hb dL_law_948 (lv_at hl 1 rfl) ?_
    refine lv_if_ne (tgt := 965) hx hb dL_law_950 (by decide) (fun c9 => ?_) (fun c9 => ?_)
    · have hf := zif_f c9 hf
      exact m_L_law_b965 hc hr hin hl0 hZ k28 hk28 h114 a0 a1 a2 a3 a4 v5 _ _ _ _ _ _ hX hf hq hn _ (lv_sub hl [2, 3, 4, 5, 6, 7] rfl)
    · have hf := zif_t c9 hf
      refine lv_aload_n (x := a3) hx hb dL_law_953 rfl (lv_at hl 5 rfl) ?_
      refine lv_iconst (v := (0 : Int32)) hx hb dL_law_954 (by decide) ?_
      refine zr_aL hc hn hf dL_law_955 (fun x115 hf => ?_)
      refine lv_iload hx hb dL_law_956 (lv_at hl 0 rfl) ?_
      refine lv_i2l (v := x111.toInt64) hx hb dL_law_958 rfl ?_
      refine zr_nmL hf (fun x116 hf => ?_)
      refine W.lcmp hx hb dL_law_959 ?_
      refine zr_nmI hf (fun x117 hf => ?_)
      refine lv_if_eq (tgt := 965) hx hb dL_law_960 (by decide) (fun c9 => ?_) (fun c9 => ?_)
      · have hf := zif_t c9 hf
        exact m_L_law_b965 hc hr hin hl0 hZ k28 hk28 h114 a0 a1 a2 a3 a4 v5 _ _ _ _ _ _ hX hf hq hn _ (lv_sub hl [2, 3, 4, 5, 6, 7] rfl)
      · have hf := zif_f c9 hf
        refine lv_iconst (v := (0 : Int32)) hx hb dL_law_963 (by decide) ?_
        obtain ⟨rfl, rfl, rfl, rfl⟩ := zret_i hf
        obtain ⟨hq1, hq2⟩ := hq
        subst hq1
        subst hq2
        exact hZ _ _ _ _ dL_law_964 hn
  · have hf := zif_f c9 hf
    refine lv_iconst (v := (0 : Int32)) hx hb dL_law_946 (by decide) ?_
    obtain ⟨rfl, rfl, rfl, rfl⟩ := zret_i hf
    obtain ⟨hq1, hq2⟩ := hq
    subst hq1
    subst hq2
    exact hZ _ _ _ _ dL_law_947 hn
set_option maxHeartbeats 4000000 in
set_option maxRecDepth 100000 in
theorem m_L_law_b1033 {p : Program} {l : Launch} {e : Env} {s : State} {m : MethodId} {args : Array Value} {below : List Frame} {meth : Method} {c : Code} {D : va_G} {dA : Nat → ClassId} {b0 : Nat} {gs : Nat → Option Nat} (hc : zC D dA b0 gs x.cls cL_law 9 p c s m args meth) (hr : meth.sig.returnType = ret) (hin : meth.name = x.name) {r : Int32} {hh : PH} {mc ms : Nat} {L : Nat} {xs : Nat → Int32} (hl0 : l.stackTraces = false) {Q : State → Prop} (hZ : ∀ (pc : Nat) (ls : Array Slot) (H : Heap) (locs : List Loc), decode cL_law pc = .ok (.ireturn, 1) → zM D dA b0 gs s hh H locs → W p l e ({ frames := 16, cells := mc, slots := ms, locals := 3214 } : Room) s m args below meth c H locs mc ms Q (F0 m pc ls [.int r])) (k28 : PH → Nat → Nat → Nat → Nat → Nat → Int32 → ZR Int32) (hk28 : ∀ (h : PH) (a0 : Nat) (a1 : Nat) (a2 : Nat) (a3 : Nat) (a4 : Nat) (v5 : Int32) (C9 S9 : Nat) (H : Heap) (locs : List Loc) (cells slots : Nat), va_X a0 L xs s s.heap ∧ a0 < b0 → k28 h a0 a1 a2 a3 a4 v5 = some (r, hh, C9, S9) → cells + C9 = mc ∧ slots + S9 = ms → zM D dA b0 gs s h H locs → ∀ ls : Array Slot, lv_has ls 9 [(0, .ref a0), (1, .ref a1), (2, .ref a2), (3, .ref a3), (4, .ref a4), (5, .int v5)] → W p l e ({ frames := 16, cells := mc, slots := ms, locals := 3214 } : Room) s m args below meth c H locs cells slots Q (F0 m 28 ls [])) : ∀ (h : PH) (a0 : Nat) (a1 : Nat) (a2 : Nat) (a3 : Nat) (a4 : Nat) (v5 : Int32) (C9 S9 : Nat) (H : Heap) (locs : List Loc) (cells slots : Nat), va_X a0 L xs s s.heap ∧ a0 < b0 → f_L_law_b1033 L xs k28 h a0 a1 a2 a3 a4 v5 = some (r, hh, C9, S9) → cells + C9 = mc ∧ slots + S9 = ms → zM D dA b0 gs s h H locs → ∀ ls : Array Slot, lv_has ls 9 [(0, .ref a0), (1, .ref a1), (2, .ref a2), (3, .ref a3), (4, .ref a4), (5, .int v5)] → W p l e ({ frames := 16, cells := mc, slots := ms, locals := 3214 } : Room) s m args below meth c H locs cells slots Q (F0 m 1033 ls []) := by
  have hx := hc.x
  have hb := hc.b
  intro h a0 a1 a2 a3 a4 v5 C9 S9 H locs cells slots hX hf hq hn ls hl
  unfold f_L_law_b1033 at hf
  refine lv_goto (tgt := 3450) hx hb dL_law_1033 (by decide) ?_
  exact m_L_law_b3450 hc hr hin hl0 hZ k28 hk28 h a0 a1 a2 a3 a4 v5 _ _ _ _ _ _ hX hf hq hn _ (lv_sub hl [0, 1, 2, 3, 4, 5] rfl)
set_option maxHeartbeats 4000000 in
set_option maxRecDepth 100000 in
theorem m_L_law_b968 {p : Program} {l : Launch} {e : Env} {s : State} {m : MethodId} {args : Array Value} {below : List Frame} {meth : Method} {c : Code} {D : va_G} {dA : Nat → ClassId} {b0 : Nat} {gs : Nat → Option Nat} (hc : zC D dA b0 gs x.cls cL_law 9 p c s m args meth) (hr : meth.sig.returnType = ret) (hin : meth.name = x.name) {r : Int32} {hh : PH} {mc ms : Nat} {L : Nat} {xs : Nat → Int32} (hl0 : l.stackTraces = false) {Q : State → Prop} (hZ : ∀ (pc : Nat) (ls : Array Slot) (H : Heap) (locs : List Loc), decode cL_law pc = .ok (.ireturn, 1) → zM D dA b0 gs s hh H locs → W p l e ({ frames := 16, cells := mc, slots := ms, locals := 3214 } : Room) s m args below meth c H locs mc ms Q (F0 m pc ls [.int r])) (k28 : PH → Nat → Nat → Nat → Nat → Nat → Int32 → ZR Int32) (hk28 : ∀ (h : PH) (a0 : Nat) (a1 : Nat) (a2 : Nat) (a3 : Nat) (a4 : Nat) (v5 : Int32) (C9 S9 : Nat) (H : Heap) (locs : List Loc) (cells slots : Nat), va_X a0 L xs s s.heap ∧ a0 < b0 → k28 h a0 a1 a2 a3 a4 v5 = some (r, hh, C9, S9) → cells + C9 = mc ∧ slots + S9 = ms → zM D dA b0 gs s h H locs → ∀ ls : Array Slot, lv_has ls 9 [(0, .ref a0), (1, .ref a1), (2, .ref a2), (3, .ref a3), (4, .ref a4), (5, .int v5)] → W p l e ({ frames := 16, cells := mc, slots := ms, locals := 3214 } : Room) s m args below meth c H locs cells slots Q (F0 m 28 ls [])) : ∀ (h : PH) (a0 : Nat) (a1 : Nat) (a2 : Nat) (a3 : Nat) (a4 : Nat) (v5 : Int32) (C9 S9 : Nat) (H : Heap) (locs : List Loc) (cells slots : Nat), va_X a0 L xs s s.heap ∧ a0 < b0 → f_L_law_b968 L xs k28 h a0 a1 a2 a3 a4 v5 = some (r, hh, C9, S9) → cells + C9 = mc ∧ slots + S9 = ms → zM D dA b0 gs s h H locs → ∀ ls : Array Slot, lv_has ls 9 [(0, .ref a0), (1, .ref a1), (2, .ref a2), (3, .ref a3), (4, .ref a4), (5, .int v5)] → W p l e ({ frames := 16, cells := mc, slots := ms, locals := 3214 } : Room) s m args below meth c H locs cells slots Q (F0 m 968 ls []) := by
  have hx := hc.x
  have hb := hc.b
  intro h a0 a1 a2 a3 a4 v5 C9 S9 H locs cells slots hX hf hq hn ls hl
  unfold f_L_law_b968 at hf
  refine lv_aload_n (x := a1) hx hb dL_law_968 rfl (lv_at hl 1 rfl) ?_
  refine lv_aload_n (x := a0) hx hb dL_law_969 rfl (lv_at hl 0 rfl) ?_
  refine lv_iload hx hb dL_law_970 (lv_at hl 5 rfl) ?_
  refine lv_iconst (v := (1 : Int32)) hx hb dL_law_972 (by decide) ?_
  refine lv_iadd hx hb dL_law_973 ?_
  refine zr_nmI hf (fun x101 hf => ?_)
  refine zr_xld hc hn hX hf dL_law_974 (fun x102 hf => ?_)
  refine lv_aload_n (x := a0) hx hb dL_law_975 rfl (lv_at hl 0 rfl) ?_
  refine lv_iload hx hb dL_law_976 (lv_at hl 5 rfl) ?_
  refine lv_iconst (v := (2 : Int32)) hx hb dL_law_978 (by decide) ?_
  refine lv_iadd hx hb dL_law_979 ?_
  refine zr_nmI hf (fun x103 hf => ?_)
  refine zr_xld hc hn hX hf dL_law_980 (fun x104 hf => ?_)
  refine lv_aload_n (x := a3) hx hb dL_law_981 rfl (lv_at hl 3 rfl) ?_
  refine zr_cSWI (As := [.ref a1, .int x102, .int x104, .ref a3]) (rest := []) hc hn hq hd_X0_rank (lw_SW q1275 q1276 q83 q1277) (Nat.le_of_ble_eq_true rfl) (Nat.le_of_ble_eq_true rfl) (fun _ _ _ _ q => m_X0_rank l hl0 D dA b0 gs h a1 x102 x104 a3 q) hf dL_law_982 hl.1 rfl rfl (zroom (Nat.le_of_ble_eq_true rfl)) (fun x105 h106 H locs cells slots C9 S9 hf hq hn => ?_)
  refine lv_istore (lv' := [(6, .int x105), (0, .ref a0), (1, .ref a1), (2, .ref a2), (3, .ref a3), (4, .ref a4), (5, .int v5)]) hx hb dL_law_985 hl (by decide) rfl (fun ls hl => ?_)
  refine lv_aload_n (x := a2) hx hb dL_law_987 rfl (lv_at hl 3 rfl) ?_
  refine lv_aload_n (x := a0) hx hb dL_law_988 rfl (lv_at hl 1 rfl) ?_
  refine lv_iload hx hb dL_law_989 (lv_at hl 6 rfl) ?_
  refine lv_iconst (v := (1 : Int32)) hx hb dL_law_991 (by decide) ?_
  refine lv_iadd hx hb dL_law_992 ?_
  refine zr_nmI hf (fun x107 hf => ?_)
  refine zr_xld hc hn hX hf dL_law_993 (fun x108 hf => ?_)
  refine lv_aload_n (x := a0) hx hb dL_law_994 rfl (lv_at hl 1 rfl) ?_
  refine lv_iload hx hb dL_law_995 (lv_at hl 6 rfl) ?_
  refine lv_iconst (v := (2 : Int32)) hx hb dL_law_997 (by decide) ?_
  refine lv_iadd hx hb dL_law_998 ?_
  refine zr_nmI hf (fun x109 hf => ?_)
  refine zr_xld hc hn hX hf dL_law_999 (fun x110 hf => ?_)
  refine zr_cVI (As := [.int x108, .int x110]) (rest := []) hc hn hq (ci := 3) rfl ⟨rfl, hd_X4_rank⟩ (lw_V q2397 q2398 q2399 q91 q2400) (Nat.le_of_ble_eq_true rfl) (Nat.le_of_ble_eq_true rfl) (fun _ _ _ _ q => m_X4_rank l D dA b0 gs h106 a2 x108 x110 q) hf dL_law_1000 hl.1 rfl rfl (zroom (Nat.le_of_ble_eq_true rfl)) (fun x111 h112 H locs cells slots C9 S9 hf hq hn => ?_)
  refine lv_istore (lv' := [(7, .int x111), (6, .int x105), (0, .ref a0), (1, .ref a1), (2, .ref a2), (3, .ref a3), (4, .ref a4), (5, .int v5)]) hx hb dL_law_1003 hl (by decide) rfl (fun ls hl => ?_)
  refine lv_aload_n (x := a2) hx hb dL_law_1005 rfl (lv_at hl 4 rfl) ?_
  refine zr_cVI (As := []) (rest := []) hc hn hq (ci := 3) rfl ⟨rfl, hd_X4_thrown⟩ (lw_V q2195 q2196 q2197 q91 q2198) (Nat.le_of_ble_eq_true rfl) (Nat.le_of_ble_eq_true rfl) (fun _ _ _ _ q => m_X4_thrown l D dA b0 gs h112 a2 q) hf dL_law_1006 hl.1 rfl rfl (zroom (Nat.le_of_ble_eq_true rfl)) (fun x113 h114 H locs cells slots C9 S9 hf hq hn => ?_)
  refine lv_iload hx hb dL_law_1009 (lv_at hl 1 rfl) ?_
  refine lv_icmp_eq (tgt := 1016) hx hb dL_law_1011 (by decide) (fun c9 => ?_) (fun c9 => ?_)
  · have hf := zif_t c9 hf
    refine lv_iload hx hb dL_law_1016 (lv_at hl 1 rfl) ?_
    refine lv_if_ne (tgt := 1033) hx hb dL_law_1018 (by decide) (fun c9 => ?_) (fun c9 => ?_)
    · have hf := zif_f c9 hf
      exact m_L_law_b1033 hc hr hin hl0 hZ k28 hk28 h114 a0 a1 a2 a3 a4 v5 _ _ _ _ _ _ hX hf hq hn _ (lv_sub hl [2, 3, 4, 5, 6, 7] rfl)
    · have hf := zif_t c9 hf
      refine lv_aload_n (x := a3) hx hb dL_law_1021 rfl (lv_at hl 5 rfl) ?_
      refine lv_iconst (v := (0 : Int32)) hx hb dL_law_1022 (by decide) ?_
      refine zr_aL hc hn hf dL_law_1023 (fun x115 hf => ?_)
      refine lv_iload hx hb dL_law_1024 (lv_at hl 0 rfl) ?_
      refine lv_i2l (v := x111.toInt64) hx hb dL_law_1026 rfl ?_
      refine zr_nmL hf (fun x116 hf => ?_)
      refine W.lcmp hx hb dL_law_1027 ?_
      refine zr_nmI hf (fun x117 hf => ?_)
      refine lv_if_eq (tgt := 1033) hx hb dL_law_1028 (by decide) (fun c9 => ?_) (fun c9 => ?_)
      · have hf := zif_t c9 hf
        exact m_L_law_b1033 hc hr hin hl0 hZ k28 hk28 h114 a0 a1 a2 a3 a4 v5 _ _ _ _ _ _ hX hf hq hn _ (lv_sub hl [2, 3, 4, 5, 6, 7] rfl)
      · have hf := zif_f c9 hf
        refine lv_iconst (v := (0 : Int32)) hx hb dL_law_1031 (by decide) ?_
        obtain ⟨rfl, rfl, rfl, rfl⟩ := zret_i hf
        obtain ⟨hq1, hq2⟩ := hq
        subst hq1
        subst hq2
        exact hZ _ _ _ _ dL_law_1032 hn
  · have hf := zif_f c9 hf
    refine lv_iconst (v := (0 : Int32)) hx hb dL_law_1014 (by decide) ?_
    obtain ⟨rfl, rfl, rfl, rfl⟩ := zret_i hf
    obtain ⟨hq1, hq2⟩ := hq
    subst hq1
    subst hq2
    exact hZ _ _ _ _ dL_law_1015 hn
set_option maxHeartbeats 4000000 in
set_option maxRecDepth 100000 in
theorem m_L_law_b1101 {p : Program} {l : Launch} {e : Env} {s : State} {m : MethodId} {args : Array Value} {below : List Frame} {meth : Method} {c : Code} {D : va_G} {dA : Nat → ClassId} {b0 : Nat} {gs : Nat → Option Nat} (hc : zC D dA b0 gs x.cls cL_law 9 p c s m args meth) (hr : meth.sig.returnType = ret) (hin : meth.name = x.name) {r : Int32} {hh : PH} {mc ms : Nat} {L : Nat} {xs : Nat → Int32} (hl0 : l.stackTraces = false) {Q : State → Prop} (hZ : ∀ (pc : Nat) (ls : Array Slot) (H : Heap) (locs : List Loc), decode cL_law pc = .ok (.ireturn, 1) → zM D dA b0 gs s hh H locs → W p l e ({ frames := 16, cells := mc, slots := ms, locals := 3214 } : Room) s m args below meth c H locs mc ms Q (F0 m pc ls [.int r])) (k28 : PH → Nat → Nat → Nat → Nat → Nat → Int32 → ZR Int32) (hk28 : ∀ (h : PH) (a0 : Nat) (a1 : Nat) (a2 : Nat) (a3 : Nat) (a4 : Nat) (v5 : Int32) (C9 S9 : Nat) (H : Heap) (locs : List Loc) (cells slots : Nat), va_X a0 L xs s s.heap ∧ a0 < b0 → k28 h a0 a1 a2 a3 a4 v5 = some (r, hh, C9, S9) → cells + C9 = mc ∧ slots + S9 = ms → zM D dA b0 gs s h H locs → ∀ ls : Array Slot, lv_has ls 9 [(0, .ref a0), (1, .ref a1), (2, .ref a2), (3, .ref a3), (4, .ref a4), (5, .int v5)] → W p l e ({ frames := 16, cells := mc, slots := ms, locals := 3214 } : Room) s m args below meth c H locs cells slots Q (F0 m 28 ls [])) : ∀ (h : PH) (a0 : Nat) (a1 : Nat) (a2 : Nat) (a3 : Nat) (a4 : Nat) (v5 : Int32) (C9 S9 : Nat) (H : Heap) (locs : List Loc) (cells slots : Nat), va_X a0 L xs s s.heap ∧ a0 < b0 → f_L_law_b1101 L xs k28 h a0 a1 a2 a3 a4 v5 = some (r, hh, C9, S9) → cells + C9 = mc ∧ slots + S9 = ms → zM D dA b0 gs s h H locs → ∀ ls : Array Slot, lv_has ls 9 [(0, .ref a0), (1, .ref a1), (2, .ref a2), (3, .ref a3), (4, .ref a4), (5, .int v5)] → W p l e ({ frames := 16, cells := mc, slots := ms, locals := 3214 } : Room) s m args below meth c H locs cells slots Q (F0 m 1101 ls []) := by
  have hx := hc.x
  have hb := hc.b
  intro h a0 a1 a2 a3 a4 v5 C9 S9 H locs cells slots hX hf hq hn ls hl
  unfold f_L_law_b1101 at hf
  refine lv_goto (tgt := 3450) hx hb dL_law_1101 (by decide) ?_
  exact m_L_law_b3450 hc hr hin hl0 hZ k28 hk28 h a0 a1 a2 a3 a4 v5 _ _ _ _ _ _ hX hf hq hn _ (lv_sub hl [0, 1, 2, 3, 4, 5] rfl)
set_option maxHeartbeats 4000000 in
set_option maxRecDepth 100000 in
theorem m_L_law_b1036 {p : Program} {l : Launch} {e : Env} {s : State} {m : MethodId} {args : Array Value} {below : List Frame} {meth : Method} {c : Code} {D : va_G} {dA : Nat → ClassId} {b0 : Nat} {gs : Nat → Option Nat} (hc : zC D dA b0 gs x.cls cL_law 9 p c s m args meth) (hr : meth.sig.returnType = ret) (hin : meth.name = x.name) {r : Int32} {hh : PH} {mc ms : Nat} {L : Nat} {xs : Nat → Int32} (hl0 : l.stackTraces = false) {Q : State → Prop} (hZ : ∀ (pc : Nat) (ls : Array Slot) (H : Heap) (locs : List Loc), decode cL_law pc = .ok (.ireturn, 1) → zM D dA b0 gs s hh H locs → W p l e ({ frames := 16, cells := mc, slots := ms, locals := 3214 } : Room) s m args below meth c H locs mc ms Q (F0 m pc ls [.int r])) (k28 : PH → Nat → Nat → Nat → Nat → Nat → Int32 → ZR Int32) (hk28 : ∀ (h : PH) (a0 : Nat) (a1 : Nat) (a2 : Nat) (a3 : Nat) (a4 : Nat) (v5 : Int32) (C9 S9 : Nat) (H : Heap) (locs : List Loc) (cells slots : Nat), va_X a0 L xs s s.heap ∧ a0 < b0 → k28 h a0 a1 a2 a3 a4 v5 = some (r, hh, C9, S9) → cells + C9 = mc ∧ slots + S9 = ms → zM D dA b0 gs s h H locs → ∀ ls : Array Slot, lv_has ls 9 [(0, .ref a0), (1, .ref a1), (2, .ref a2), (3, .ref a3), (4, .ref a4), (5, .int v5)] → W p l e ({ frames := 16, cells := mc, slots := ms, locals := 3214 } : Room) s m args below meth c H locs cells slots Q (F0 m 28 ls [])) : ∀ (h : PH) (a0 : Nat) (a1 : Nat) (a2 : Nat) (a3 : Nat) (a4 : Nat) (v5 : Int32) (C9 S9 : Nat) (H : Heap) (locs : List Loc) (cells slots : Nat), va_X a0 L xs s s.heap ∧ a0 < b0 → f_L_law_b1036 L xs k28 h a0 a1 a2 a3 a4 v5 = some (r, hh, C9, S9) → cells + C9 = mc ∧ slots + S9 = ms → zM D dA b0 gs s h H locs → ∀ ls : Array Slot, lv_has ls 9 [(0, .ref a0), (1, .ref a1), (2, .ref a2), (3, .ref a3), (4, .ref a4), (5, .int v5)] → W p l e ({ frames := 16, cells := mc, slots := ms, locals := 3214 } : Room) s m args below meth c H locs cells slots Q (F0 m 1036 ls []) := by
  have hx := hc.x
  have hb := hc.b
  intro h a0 a1 a2 a3 a4 v5 C9 S9 H locs cells slots hX hf hq hn ls hl
  unfold f_L_law_b1036 at hf
  refine lv_aload_n (x := a1) hx hb dL_law_1036 rfl (lv_at hl 1 rfl) ?_
  refine lv_aload_n (x := a0) hx hb dL_law_1037 rfl (lv_at hl 0 rfl) ?_
  refine lv_iload hx hb dL_law_1038 (lv_at hl 5 rfl) ?_
  refine lv_iconst (v := (1 : Int32)) hx hb dL_law_1040 (by decide) ?_
  refine lv_iadd hx hb dL_law_1041 ?_
  refine zr_nmI hf (fun x101 hf => ?_)
  refine zr_xld hc hn hX hf dL_law_1042 (fun x102 hf => ?_)
  refine lv_aload_n (x := a0) hx hb dL_law_1043 rfl (lv_at hl 0 rfl) ?_
  refine lv_iload hx hb dL_law_1044 (lv_at hl 5 rfl) ?_
  refine lv_iconst (v := (2 : Int32)) hx hb dL_law_1046 (by decide) ?_
  refine lv_iadd hx hb dL_law_1047 ?_
  refine zr_nmI hf (fun x103 hf => ?_)
  refine zr_xld hc hn hX hf dL_law_1048 (fun x104 hf => ?_)
  refine lv_aload_n (x := a3) hx hb dL_law_1049 rfl (lv_at hl 3 rfl) ?_
  refine zr_cSWI (As := [.ref a1, .int x102, .int x104, .ref a3]) (rest := []) hc hn hq hd_X0_nearest (lw_SW q1286 q1287 q83 q1288) (Nat.le_of_ble_eq_true rfl) (Nat.le_of_ble_eq_true rfl) (fun _ _ _ _ q => m_X0_nearest l hl0 D dA b0 gs h a1 x102 x104 a3 q) hf dL_law_1050 hl.1 rfl rfl (zroom (Nat.le_of_ble_eq_true rfl)) (fun x105 h106 H locs cells slots C9 S9 hf hq hn => ?_)
  refine lv_istore (lv' := [(6, .int x105), (0, .ref a0), (1, .ref a1), (2, .ref a2), (3, .ref a3), (4, .ref a4), (5, .int v5)]) hx hb dL_law_1053 hl (by decide) rfl (fun ls hl => ?_)
  refine lv_aload_n (x := a2) hx hb dL_law_1055 rfl (lv_at hl 3 rfl) ?_
  refine lv_aload_n (x := a0) hx hb dL_law_1056 rfl (lv_at hl 1 rfl) ?_
  refine lv_iload hx hb dL_law_1057 (lv_at hl 6 rfl) ?_
  refine lv_iconst (v := (1 : Int32)) hx hb dL_law_1059 (by decide) ?_
  refine lv_iadd hx hb dL_law_1060 ?_
  refine zr_nmI hf (fun x107 hf => ?_)
  refine zr_xld hc hn hX hf dL_law_1061 (fun x108 hf => ?_)
  refine lv_aload_n (x := a0) hx hb dL_law_1062 rfl (lv_at hl 1 rfl) ?_
  refine lv_iload hx hb dL_law_1063 (lv_at hl 6 rfl) ?_
  refine lv_iconst (v := (2 : Int32)) hx hb dL_law_1065 (by decide) ?_
  refine lv_iadd hx hb dL_law_1066 ?_
  refine zr_nmI hf (fun x109 hf => ?_)
  refine zr_xld hc hn hX hf dL_law_1067 (fun x110 hf => ?_)
  refine zr_cVI (As := [.int x108, .int x110]) (rest := []) hc hn hq (ci := 3) rfl ⟨rfl, hd_X4_nearest⟩ (lw_V q2405 q2406 q2407 q91 q2408) (Nat.le_of_ble_eq_true rfl) (Nat.le_of_ble_eq_true rfl) (fun _ _ _ _ q => m_X4_nearest l D dA b0 gs h106 a2 x108 x110 q) hf dL_law_1068 hl.1 rfl rfl (zroom (Nat.le_of_ble_eq_true rfl)) (fun x111 h112 H locs cells slots C9 S9 hf hq hn => ?_)
  refine lv_istore (lv' := [(7, .int x111), (6, .int x105), (0, .ref a0), (1, .ref a1), (2, .ref a2), (3, .ref a3), (4, .ref a4), (5, .int v5)]) hx hb dL_law_1071 hl (by decide) rfl (fun ls hl => ?_)
  refine lv_aload_n (x := a2) hx hb dL_law_1073 rfl (lv_at hl 4 rfl) ?_
  refine zr_cVI (As := []) (rest := []) hc hn hq (ci := 3) rfl ⟨rfl, hd_X4_thrown⟩ (lw_V q2195 q2196 q2197 q91 q2198) (Nat.le_of_ble_eq_true rfl) (Nat.le_of_ble_eq_true rfl) (fun _ _ _ _ q => m_X4_thrown l D dA b0 gs h112 a2 q) hf dL_law_1074 hl.1 rfl rfl (zroom (Nat.le_of_ble_eq_true rfl)) (fun x113 h114 H locs cells slots C9 S9 hf hq hn => ?_)
  refine lv_iload hx hb dL_law_1077 (lv_at hl 1 rfl) ?_
  refine lv_icmp_eq (tgt := 1084) hx hb dL_law_1079 (by decide) (fun c9 => ?_) (fun c9 => ?_)
  · have hf := zif_t c9 hf
    refine lv_iload hx hb dL_law_1084 (lv_at hl 1 rfl) ?_
    refine lv_if_ne (tgt := 1101) hx hb dL_law_1086 (by decide) (fun c9 => ?_) (fun c9 => ?_)
    · have hf := zif_f c9 hf
      exact m_L_law_b1101 hc hr hin hl0 hZ k28 hk28 h114 a0 a1 a2 a3 a4 v5 _ _ _ _ _ _ hX hf hq hn _ (lv_sub hl [2, 3, 4, 5, 6, 7] rfl)
    · have hf := zif_t c9 hf
      refine lv_aload_n (x := a3) hx hb dL_law_1089 rfl (lv_at hl 5 rfl) ?_
      refine lv_iconst (v := (0 : Int32)) hx hb dL_law_1090 (by decide) ?_
      refine zr_aL hc hn hf dL_law_1091 (fun x115 hf => ?_)
      refine lv_iload hx hb dL_law_1092 (lv_at hl 0 rfl) ?_
      refine lv_i2l (v := x111.toInt64) hx hb dL_law_1094 rfl ?_
      refine zr_nmL hf (fun x116 hf => ?_)
      refine W.lcmp hx hb dL_law_1095 ?_
      refine zr_nmI hf (fun x117 hf => ?_)
      refine lv_if_eq (tgt := 1101) hx hb dL_law_1096 (by decide) (fun c9 => ?_) (fun c9 => ?_)
      · have hf := zif_t c9 hf
        exact m_L_law_b1101 hc hr hin hl0 hZ k28 hk28 h114 a0 a1 a2 a3 a4 v5 _ _ _ _ _ _ hX hf hq hn _ (lv_sub hl [2, 3, 4, 5, 6, 7] rfl)
      · have hf := zif_f c9 hf
        refine lv_iconst (v := (0 : Int32)) hx hb dL_law_1099 (by decide) ?_
        obtain ⟨rfl, rfl, rfl, rfl⟩ := zret_i hf
        obtain ⟨hq1, hq2⟩ := hq
        subst hq1
        subst hq2
        exact hZ _ _ _ _ dL_law_1100 hn
  · have hf := zif_f c9 hf
    refine lv_iconst (v := (0 : Int32)) hx hb dL_law_1082 (by decide) ?_
    obtain ⟨rfl, rfl, rfl, rfl⟩ := zret_i hf
    obtain ⟨hq1, hq2⟩ := hq
    subst hq1
    subst hq2
    exact hZ _ _ _ _ dL_law_1083 hn
set_option maxHeartbeats 4000000 in
set_option maxRecDepth 100000 in
theorem m_L_law_b1181 {p : Program} {l : Launch} {e : Env} {s : State} {m : MethodId} {args : Array Value} {below : List Frame} {meth : Method} {c : Code} {D : va_G} {dA : Nat → ClassId} {b0 : Nat} {gs : Nat → Option Nat} (hc : zC D dA b0 gs x.cls cL_law 9 p c s m args meth) (hr : meth.sig.returnType = ret) (hin : meth.name = x.name) {r : Int32} {hh : PH} {mc ms : Nat} {L : Nat} {xs : Nat → Int32} (hl0 : l.stackTraces = false) {Q : State → Prop} (hZ : ∀ (pc : Nat) (ls : Array Slot) (H : Heap) (locs : List Loc), decode cL_law pc = .ok (.ireturn, 1) → zM D dA b0 gs s hh H locs → W p l e ({ frames := 16, cells := mc, slots := ms, locals := 3214 } : Room) s m args below meth c H locs mc ms Q (F0 m pc ls [.int r])) (k28 : PH → Nat → Nat → Nat → Nat → Nat → Int32 → ZR Int32) (hk28 : ∀ (h : PH) (a0 : Nat) (a1 : Nat) (a2 : Nat) (a3 : Nat) (a4 : Nat) (v5 : Int32) (C9 S9 : Nat) (H : Heap) (locs : List Loc) (cells slots : Nat), va_X a0 L xs s s.heap ∧ a0 < b0 → k28 h a0 a1 a2 a3 a4 v5 = some (r, hh, C9, S9) → cells + C9 = mc ∧ slots + S9 = ms → zM D dA b0 gs s h H locs → ∀ ls : Array Slot, lv_has ls 9 [(0, .ref a0), (1, .ref a1), (2, .ref a2), (3, .ref a3), (4, .ref a4), (5, .int v5)] → W p l e ({ frames := 16, cells := mc, slots := ms, locals := 3214 } : Room) s m args below meth c H locs cells slots Q (F0 m 28 ls [])) : ∀ (h : PH) (a0 : Nat) (a1 : Nat) (a2 : Nat) (a3 : Nat) (a4 : Nat) (v5 : Int32) (C9 S9 : Nat) (H : Heap) (locs : List Loc) (cells slots : Nat), va_X a0 L xs s s.heap ∧ a0 < b0 → f_L_law_b1181 L xs k28 h a0 a1 a2 a3 a4 v5 = some (r, hh, C9, S9) → cells + C9 = mc ∧ slots + S9 = ms → zM D dA b0 gs s h H locs → ∀ ls : Array Slot, lv_has ls 9 [(0, .ref a0), (1, .ref a1), (2, .ref a2), (3, .ref a3), (4, .ref a4), (5, .int v5)] → W p l e ({ frames := 16, cells := mc, slots := ms, locals := 3214 } : Room) s m args below meth c H locs cells slots Q (F0 m 1181 ls []) := by
  have hx := hc.x
  have hb := hc.b
  intro h a0 a1 a2 a3 a4 v5 C9 S9 H locs cells slots hX hf hq hn ls hl
  unfold f_L_law_b1181 at hf
  refine lv_goto (tgt := 3450) hx hb dL_law_1181 (by decide) ?_
  exact m_L_law_b3450 hc hr hin hl0 hZ k28 hk28 h a0 a1 a2 a3 a4 v5 _ _ _ _ _ _ hX hf hq hn _ (lv_sub hl [0, 1, 2, 3, 4, 5] rfl)
set_option maxHeartbeats 4000000 in
set_option maxRecDepth 100000 in
theorem m_L_law_b1104 {p : Program} {l : Launch} {e : Env} {s : State} {m : MethodId} {args : Array Value} {below : List Frame} {meth : Method} {c : Code} {D : va_G} {dA : Nat → ClassId} {b0 : Nat} {gs : Nat → Option Nat} (hc : zC D dA b0 gs x.cls cL_law 9 p c s m args meth) (hr : meth.sig.returnType = ret) (hin : meth.name = x.name) {r : Int32} {hh : PH} {mc ms : Nat} {L : Nat} {xs : Nat → Int32} (hl0 : l.stackTraces = false) {Q : State → Prop} (hZ : ∀ (pc : Nat) (ls : Array Slot) (H : Heap) (locs : List Loc), decode cL_law pc = .ok (.ireturn, 1) → zM D dA b0 gs s hh H locs → W p l e ({ frames := 16, cells := mc, slots := ms, locals := 3214 } : Room) s m args below meth c H locs mc ms Q (F0 m pc ls [.int r])) (k28 : PH → Nat → Nat → Nat → Nat → Nat → Int32 → ZR Int32) (hk28 : ∀ (h : PH) (a0 : Nat) (a1 : Nat) (a2 : Nat) (a3 : Nat) (a4 : Nat) (v5 : Int32) (C9 S9 : Nat) (H : Heap) (locs : List Loc) (cells slots : Nat), va_X a0 L xs s s.heap ∧ a0 < b0 → k28 h a0 a1 a2 a3 a4 v5 = some (r, hh, C9, S9) → cells + C9 = mc ∧ slots + S9 = ms → zM D dA b0 gs s h H locs → ∀ ls : Array Slot, lv_has ls 9 [(0, .ref a0), (1, .ref a1), (2, .ref a2), (3, .ref a3), (4, .ref a4), (5, .int v5)] → W p l e ({ frames := 16, cells := mc, slots := ms, locals := 3214 } : Room) s m args below meth c H locs cells slots Q (F0 m 28 ls [])) : ∀ (h : PH) (a0 : Nat) (a1 : Nat) (a2 : Nat) (a3 : Nat) (a4 : Nat) (v5 : Int32) (C9 S9 : Nat) (H : Heap) (locs : List Loc) (cells slots : Nat), va_X a0 L xs s s.heap ∧ a0 < b0 → f_L_law_b1104 L xs k28 h a0 a1 a2 a3 a4 v5 = some (r, hh, C9, S9) → cells + C9 = mc ∧ slots + S9 = ms → zM D dA b0 gs s h H locs → ∀ ls : Array Slot, lv_has ls 9 [(0, .ref a0), (1, .ref a1), (2, .ref a2), (3, .ref a3), (4, .ref a4), (5, .int v5)] → W p l e ({ frames := 16, cells := mc, slots := ms, locals := 3214 } : Room) s m args below meth c H locs cells slots Q (F0 m 1104 ls []) := by
  have hx := hc.x
  have hb := hc.b
  intro h a0 a1 a2 a3 a4 v5 C9 S9 H locs cells slots hX hf hq hn ls hl
  unfold f_L_law_b1104 at hf
  refine lv_aload_n (x := a1) hx hb dL_law_1104 rfl (lv_at hl 1 rfl) ?_
  refine lv_aload_n (x := a0) hx hb dL_law_1105 rfl (lv_at hl 0 rfl) ?_
  refine lv_iload hx hb dL_law_1106 (lv_at hl 5 rfl) ?_
  refine lv_iconst (v := (1 : Int32)) hx hb dL_law_1108 (by decide) ?_
  refine lv_iadd hx hb dL_law_1109 ?_
  refine zr_nmI hf (fun x101 hf => ?_)
  refine zr_xld hc hn hX hf dL_law_1110 (fun x102 hf => ?_)
  refine lv_aload_n (x := a0) hx hb dL_law_1111 rfl (lv_at hl 0 rfl) ?_
  refine lv_iload hx hb dL_law_1112 (lv_at hl 5 rfl) ?_
  refine lv_iconst (v := (2 : Int32)) hx hb dL_law_1114 (by decide) ?_
  refine lv_iadd hx hb dL_law_1115 ?_
  refine zr_nmI hf (fun x103 hf => ?_)
  refine zr_xld hc hn hX hf dL_law_1116 (fun x104 hf => ?_)
  refine lv_aload_n (x := a0) hx hb dL_law_1117 rfl (lv_at hl 0 rfl) ?_
  refine lv_iload hx hb dL_law_1118 (lv_at hl 5 rfl) ?_
  refine lv_iconst (v := (3 : Int32)) hx hb dL_law_1120 (by decide) ?_
  refine lv_iadd hx hb dL_law_1121 ?_
  refine zr_nmI hf (fun x105 hf => ?_)
  refine zr_xld hc hn hX hf dL_law_1122 (fun x106 hf => ?_)
  refine lv_aload_n (x := a3) hx hb dL_law_1123 rfl (lv_at hl 3 rfl) ?_
  refine zr_cSWI (As := [.ref a1, .int x102, .int x104, .int x106, .ref a3]) (rest := []) hc hn hq hd_X0_rangeSum (lw_SW q1294 q1295 q83 q1296) (Nat.le_of_ble_eq_true rfl) (Nat.le_of_ble_eq_true rfl) (fun _ _ _ _ q => m_X0_rangeSum l hl0 D dA b0 gs h a1 x102 x104 x106 a3 q) hf dL_law_1124 hl.1 rfl rfl (zroom (Nat.le_of_ble_eq_true rfl)) (fun x107 h108 H locs cells slots C9 S9 hf hq hn => ?_)
  refine lv_istore (lv' := [(6, .int x107), (0, .ref a0), (1, .ref a1), (2, .ref a2), (3, .ref a3), (4, .ref a4), (5, .int v5)]) hx hb dL_law_1127 hl (by decide) rfl (fun ls hl => ?_)
  refine lv_aload_n (x := a2) hx hb dL_law_1129 rfl (lv_at hl 3 rfl) ?_
  refine lv_aload_n (x := a0) hx hb dL_law_1130 rfl (lv_at hl 1 rfl) ?_
  refine lv_iload hx hb dL_law_1131 (lv_at hl 6 rfl) ?_
  refine lv_iconst (v := (1 : Int32)) hx hb dL_law_1133 (by decide) ?_
  refine lv_iadd hx hb dL_law_1134 ?_
  refine zr_nmI hf (fun x109 hf => ?_)
  refine zr_xld hc hn hX hf dL_law_1135 (fun x110 hf => ?_)
  refine lv_aload_n (x := a0) hx hb dL_law_1136 rfl (lv_at hl 1 rfl) ?_
  refine lv_iload hx hb dL_law_1137 (lv_at hl 6 rfl) ?_
  refine lv_iconst (v := (2 : Int32)) hx hb dL_law_1139 (by decide) ?_
  refine lv_iadd hx hb dL_law_1140 ?_
  refine zr_nmI hf (fun x111 hf => ?_)
  refine zr_xld hc hn hX hf dL_law_1141 (fun x112 hf => ?_)
  refine lv_aload_n (x := a0) hx hb dL_law_1142 rfl (lv_at hl 1 rfl) ?_
  refine lv_iload hx hb dL_law_1143 (lv_at hl 6 rfl) ?_
  refine lv_iconst (v := (3 : Int32)) hx hb dL_law_1145 (by decide) ?_
  refine lv_iadd hx hb dL_law_1146 ?_
  refine zr_nmI hf (fun x113 hf => ?_)
  refine zr_xld hc hn hX hf dL_law_1147 (fun x114 hf => ?_)
  refine zr_cVI (As := [.int x110, .int x112, .int x114]) (rest := []) hc hn hq (ci := 3) rfl ⟨rfl, hd_X4_rangeSum⟩ (lw_V q2409 q2410 q2411 q91 q2412) (Nat.le_of_ble_eq_true rfl) (Nat.le_of_ble_eq_true rfl) (fun _ _ _ _ q => m_X4_rangeSum l D dA b0 gs h108 a2 x110 x112 x114 q) hf dL_law_1148 hl.1 rfl rfl (zroom (Nat.le_of_ble_eq_true rfl)) (fun x115 h116 H locs cells slots C9 S9 hf hq hn => ?_)
  refine lv_istore (lv' := [(7, .int x115), (6, .int x107), (0, .ref a0), (1, .ref a1), (2, .ref a2), (3, .ref a3), (4, .ref a4), (5, .int v5)]) hx hb dL_law_1151 hl (by decide) rfl (fun ls hl => ?_)
  refine lv_aload_n (x := a2) hx hb dL_law_1153 rfl (lv_at hl 4 rfl) ?_
  refine zr_cVI (As := []) (rest := []) hc hn hq (ci := 3) rfl ⟨rfl, hd_X4_thrown⟩ (lw_V q2195 q2196 q2197 q91 q2198) (Nat.le_of_ble_eq_true rfl) (Nat.le_of_ble_eq_true rfl) (fun _ _ _ _ q => m_X4_thrown l D dA b0 gs h116 a2 q) hf dL_law_1154 hl.1 rfl rfl (zroom (Nat.le_of_ble_eq_true rfl)) (fun x117 h118 H locs cells slots C9 S9 hf hq hn => ?_)
  refine lv_iload hx hb dL_law_1157 (lv_at hl 1 rfl) ?_
  refine lv_icmp_eq (tgt := 1164) hx hb dL_law_1159 (by decide) (fun c9 => ?_) (fun c9 => ?_)
  · have hf := zif_t c9 hf
    refine lv_iload hx hb dL_law_1164 (lv_at hl 1 rfl) ?_
    refine lv_if_ne (tgt := 1181) hx hb dL_law_1166 (by decide) (fun c9 => ?_) (fun c9 => ?_)
    · have hf := zif_f c9 hf
      exact m_L_law_b1181 hc hr hin hl0 hZ k28 hk28 h118 a0 a1 a2 a3 a4 v5 _ _ _ _ _ _ hX hf hq hn _ (lv_sub hl [2, 3, 4, 5, 6, 7] rfl)
    · have hf := zif_t c9 hf
      refine lv_aload_n (x := a3) hx hb dL_law_1169 rfl (lv_at hl 5 rfl) ?_
      refine lv_iconst (v := (0 : Int32)) hx hb dL_law_1170 (by decide) ?_
      refine zr_aL hc hn hf dL_law_1171 (fun x119 hf => ?_)
      refine lv_iload hx hb dL_law_1172 (lv_at hl 0 rfl) ?_
      refine lv_i2l (v := x115.toInt64) hx hb dL_law_1174 rfl ?_
      refine zr_nmL hf (fun x120 hf => ?_)
      refine W.lcmp hx hb dL_law_1175 ?_
      refine zr_nmI hf (fun x121 hf => ?_)
      refine lv_if_eq (tgt := 1181) hx hb dL_law_1176 (by decide) (fun c9 => ?_) (fun c9 => ?_)
      · have hf := zif_t c9 hf
        exact m_L_law_b1181 hc hr hin hl0 hZ k28 hk28 h118 a0 a1 a2 a3 a4 v5 _ _ _ _ _ _ hX hf hq hn _ (lv_sub hl [2, 3, 4, 5, 6, 7] rfl)
      · have hf := zif_f c9 hf
        refine lv_iconst (v := (0 : Int32)) hx hb dL_law_1179 (by decide) ?_
        obtain ⟨rfl, rfl, rfl, rfl⟩ := zret_i hf
        obtain ⟨hq1, hq2⟩ := hq
        subst hq1
        subst hq2
        exact hZ _ _ _ _ dL_law_1180 hn
  · have hf := zif_f c9 hf
    refine lv_iconst (v := (0 : Int32)) hx hb dL_law_1162 (by decide) ?_
    obtain ⟨rfl, rfl, rfl, rfl⟩ := zret_i hf
    obtain ⟨hq1, hq2⟩ := hq
    subst hq1
    subst hq2
    exact hZ _ _ _ _ dL_law_1163 hn
set_option maxHeartbeats 4000000 in
set_option maxRecDepth 100000 in
theorem m_L_law_b1249 {p : Program} {l : Launch} {e : Env} {s : State} {m : MethodId} {args : Array Value} {below : List Frame} {meth : Method} {c : Code} {D : va_G} {dA : Nat → ClassId} {b0 : Nat} {gs : Nat → Option Nat} (hc : zC D dA b0 gs x.cls cL_law 9 p c s m args meth) (hr : meth.sig.returnType = ret) (hin : meth.name = x.name) {r : Int32} {hh : PH} {mc ms : Nat} {L : Nat} {xs : Nat → Int32} (hl0 : l.stackTraces = false) {Q : State → Prop} (hZ : ∀ (pc : Nat) (ls : Array Slot) (H : Heap) (locs : List Loc), decode cL_law pc = .ok (.ireturn, 1) → zM D dA b0 gs s hh H locs → W p l e ({ frames := 16, cells := mc, slots := ms, locals := 3214 } : Room) s m args below meth c H locs mc ms Q (F0 m pc ls [.int r])) (k28 : PH → Nat → Nat → Nat → Nat → Nat → Int32 → ZR Int32) (hk28 : ∀ (h : PH) (a0 : Nat) (a1 : Nat) (a2 : Nat) (a3 : Nat) (a4 : Nat) (v5 : Int32) (C9 S9 : Nat) (H : Heap) (locs : List Loc) (cells slots : Nat), va_X a0 L xs s s.heap ∧ a0 < b0 → k28 h a0 a1 a2 a3 a4 v5 = some (r, hh, C9, S9) → cells + C9 = mc ∧ slots + S9 = ms → zM D dA b0 gs s h H locs → ∀ ls : Array Slot, lv_has ls 9 [(0, .ref a0), (1, .ref a1), (2, .ref a2), (3, .ref a3), (4, .ref a4), (5, .int v5)] → W p l e ({ frames := 16, cells := mc, slots := ms, locals := 3214 } : Room) s m args below meth c H locs cells slots Q (F0 m 28 ls [])) : ∀ (h : PH) (a0 : Nat) (a1 : Nat) (a2 : Nat) (a3 : Nat) (a4 : Nat) (v5 : Int32) (C9 S9 : Nat) (H : Heap) (locs : List Loc) (cells slots : Nat), va_X a0 L xs s s.heap ∧ a0 < b0 → f_L_law_b1249 L xs k28 h a0 a1 a2 a3 a4 v5 = some (r, hh, C9, S9) → cells + C9 = mc ∧ slots + S9 = ms → zM D dA b0 gs s h H locs → ∀ ls : Array Slot, lv_has ls 9 [(0, .ref a0), (1, .ref a1), (2, .ref a2), (3, .ref a3), (4, .ref a4), (5, .int v5)] → W p l e ({ frames := 16, cells := mc, slots := ms, locals := 3214 } : Room) s m args below meth c H locs cells slots Q (F0 m 1249 ls []) := by
  have hx := hc.x
  have hb := hc.b
  intro h a0 a1 a2 a3 a4 v5 C9 S9 H locs cells slots hX hf hq hn ls hl
  unfold f_L_law_b1249 at hf
  refine lv_goto (tgt := 3450) hx hb dL_law_1249 (by decide) ?_
  exact m_L_law_b3450 hc hr hin hl0 hZ k28 hk28 h a0 a1 a2 a3 a4 v5 _ _ _ _ _ _ hX hf hq hn _ (lv_sub hl [0, 1, 2, 3, 4, 5] rfl)
set_option maxHeartbeats 4000000 in
set_option maxRecDepth 100000 in
theorem m_L_law_b1184 {p : Program} {l : Launch} {e : Env} {s : State} {m : MethodId} {args : Array Value} {below : List Frame} {meth : Method} {c : Code} {D : va_G} {dA : Nat → ClassId} {b0 : Nat} {gs : Nat → Option Nat} (hc : zC D dA b0 gs x.cls cL_law 9 p c s m args meth) (hr : meth.sig.returnType = ret) (hin : meth.name = x.name) {r : Int32} {hh : PH} {mc ms : Nat} {L : Nat} {xs : Nat → Int32} (hl0 : l.stackTraces = false) {Q : State → Prop} (hZ : ∀ (pc : Nat) (ls : Array Slot) (H : Heap) (locs : List Loc), decode cL_law pc = .ok (.ireturn, 1) → zM D dA b0 gs s hh H locs → W p l e ({ frames := 16, cells := mc, slots := ms, locals := 3214 } : Room) s m args below meth c H locs mc ms Q (F0 m pc ls [.int r])) (k28 : PH → Nat → Nat → Nat → Nat → Nat → Int32 → ZR Int32) (hk28 : ∀ (h : PH) (a0 : Nat) (a1 : Nat) (a2 : Nat) (a3 : Nat) (a4 : Nat) (v5 : Int32) (C9 S9 : Nat) (H : Heap) (locs : List Loc) (cells slots : Nat), va_X a0 L xs s s.heap ∧ a0 < b0 → k28 h a0 a1 a2 a3 a4 v5 = some (r, hh, C9, S9) → cells + C9 = mc ∧ slots + S9 = ms → zM D dA b0 gs s h H locs → ∀ ls : Array Slot, lv_has ls 9 [(0, .ref a0), (1, .ref a1), (2, .ref a2), (3, .ref a3), (4, .ref a4), (5, .int v5)] → W p l e ({ frames := 16, cells := mc, slots := ms, locals := 3214 } : Room) s m args below meth c H locs cells slots Q (F0 m 28 ls [])) : ∀ (h : PH) (a0 : Nat) (a1 : Nat) (a2 : Nat) (a3 : Nat) (a4 : Nat) (v5 : Int32) (C9 S9 : Nat) (H : Heap) (locs : List Loc) (cells slots : Nat), va_X a0 L xs s s.heap ∧ a0 < b0 → f_L_law_b1184 L xs k28 h a0 a1 a2 a3 a4 v5 = some (r, hh, C9, S9) → cells + C9 = mc ∧ slots + S9 = ms → zM D dA b0 gs s h H locs → ∀ ls : Array Slot, lv_has ls 9 [(0, .ref a0), (1, .ref a1), (2, .ref a2), (3, .ref a3), (4, .ref a4), (5, .int v5)] → W p l e ({ frames := 16, cells := mc, slots := ms, locals := 3214 } : Room) s m args below meth c H locs cells slots Q (F0 m 1184 ls []) := by
  have hx := hc.x
  have hb := hc.b
  intro h a0 a1 a2 a3 a4 v5 C9 S9 H locs cells slots hX hf hq hn ls hl
  unfold f_L_law_b1184 at hf
  refine lv_aload_n (x := a1) hx hb dL_law_1184 rfl (lv_at hl 1 rfl) ?_
  refine lv_aload_n (x := a0) hx hb dL_law_1185 rfl (lv_at hl 0 rfl) ?_
  refine lv_iload hx hb dL_law_1186 (lv_at hl 5 rfl) ?_
  refine lv_iconst (v := (1 : Int32)) hx hb dL_law_1188 (by decide) ?_
  refine lv_iadd hx hb dL_law_1189 ?_
  refine zr_nmI hf (fun x101 hf => ?_)
  refine zr_xld hc hn hX hf dL_law_1190 (fun x102 hf => ?_)
  refine lv_aload_n (x := a0) hx hb dL_law_1191 rfl (lv_at hl 0 rfl) ?_
  refine lv_iload hx hb dL_law_1192 (lv_at hl 5 rfl) ?_
  refine lv_iconst (v := (2 : Int32)) hx hb dL_law_1194 (by decide) ?_
  refine lv_iadd hx hb dL_law_1195 ?_
  refine zr_nmI hf (fun x103 hf => ?_)
  refine zr_xld hc hn hX hf dL_law_1196 (fun x104 hf => ?_)
  refine lv_aload_n (x := a3) hx hb dL_law_1197 rfl (lv_at hl 3 rfl) ?_
  refine zr_cSWI (As := [.ref a1, .int x102, .int x104, .ref a3]) (rest := []) hc hn hq hd_X0_rowSize (lw_SW q1305 q1306 q83 q1307) (Nat.le_of_ble_eq_true rfl) (Nat.le_of_ble_eq_true rfl) (fun _ _ _ _ q => m_X0_rowSize l hl0 D dA b0 gs h a1 x102 x104 a3 q) hf dL_law_1198 hl.1 rfl rfl (zroom (Nat.le_of_ble_eq_true rfl)) (fun x105 h106 H locs cells slots C9 S9 hf hq hn => ?_)
  refine lv_istore (lv' := [(6, .int x105), (0, .ref a0), (1, .ref a1), (2, .ref a2), (3, .ref a3), (4, .ref a4), (5, .int v5)]) hx hb dL_law_1201 hl (by decide) rfl (fun ls hl => ?_)
  refine lv_aload_n (x := a2) hx hb dL_law_1203 rfl (lv_at hl 3 rfl) ?_
  refine lv_aload_n (x := a0) hx hb dL_law_1204 rfl (lv_at hl 1 rfl) ?_
  refine lv_iload hx hb dL_law_1205 (lv_at hl 6 rfl) ?_
  refine lv_iconst (v := (1 : Int32)) hx hb dL_law_1207 (by decide) ?_
  refine lv_iadd hx hb dL_law_1208 ?_
  refine zr_nmI hf (fun x107 hf => ?_)
  refine zr_xld hc hn hX hf dL_law_1209 (fun x108 hf => ?_)
  refine lv_aload_n (x := a0) hx hb dL_law_1210 rfl (lv_at hl 1 rfl) ?_
  refine lv_iload hx hb dL_law_1211 (lv_at hl 6 rfl) ?_
  refine lv_iconst (v := (2 : Int32)) hx hb dL_law_1213 (by decide) ?_
  refine lv_iadd hx hb dL_law_1214 ?_
  refine zr_nmI hf (fun x109 hf => ?_)
  refine zr_xld hc hn hX hf dL_law_1215 (fun x110 hf => ?_)
  refine zr_cVI (As := [.int x108, .int x110]) (rest := []) hc hn hq (ci := 3) rfl ⟨rfl, hd_X4_rowSize⟩ (lw_V q2413 q2414 q2415 q91 q2416) (Nat.le_of_ble_eq_true rfl) (Nat.le_of_ble_eq_true rfl) (fun _ _ _ _ q => m_X4_rowSize l D dA b0 gs h106 a2 x108 x110 q) hf dL_law_1216 hl.1 rfl rfl (zroom (Nat.le_of_ble_eq_true rfl)) (fun x111 h112 H locs cells slots C9 S9 hf hq hn => ?_)
  refine lv_istore (lv' := [(7, .int x111), (6, .int x105), (0, .ref a0), (1, .ref a1), (2, .ref a2), (3, .ref a3), (4, .ref a4), (5, .int v5)]) hx hb dL_law_1219 hl (by decide) rfl (fun ls hl => ?_)
  refine lv_aload_n (x := a2) hx hb dL_law_1221 rfl (lv_at hl 4 rfl) ?_
  refine zr_cVI (As := []) (rest := []) hc hn hq (ci := 3) rfl ⟨rfl, hd_X4_thrown⟩ (lw_V q2195 q2196 q2197 q91 q2198) (Nat.le_of_ble_eq_true rfl) (Nat.le_of_ble_eq_true rfl) (fun _ _ _ _ q => m_X4_thrown l D dA b0 gs h112 a2 q) hf dL_law_1222 hl.1 rfl rfl (zroom (Nat.le_of_ble_eq_true rfl)) (fun x113 h114 H locs cells slots C9 S9 hf hq hn => ?_)
  refine lv_iload hx hb dL_law_1225 (lv_at hl 1 rfl) ?_
  refine lv_icmp_eq (tgt := 1232) hx hb dL_law_1227 (by decide) (fun c9 => ?_) (fun c9 => ?_)
  · have hf := zif_t c9 hf
    refine lv_iload hx hb dL_law_1232 (lv_at hl 1 rfl) ?_
    refine lv_if_ne (tgt := 1249) hx hb dL_law_1234 (by decide) (fun c9 => ?_) (fun c9 => ?_)
    · have hf := zif_f c9 hf
      exact m_L_law_b1249 hc hr hin hl0 hZ k28 hk28 h114 a0 a1 a2 a3 a4 v5 _ _ _ _ _ _ hX hf hq hn _ (lv_sub hl [2, 3, 4, 5, 6, 7] rfl)
    · have hf := zif_t c9 hf
      refine lv_aload_n (x := a3) hx hb dL_law_1237 rfl (lv_at hl 5 rfl) ?_
      refine lv_iconst (v := (0 : Int32)) hx hb dL_law_1238 (by decide) ?_
      refine zr_aL hc hn hf dL_law_1239 (fun x115 hf => ?_)
      refine lv_iload hx hb dL_law_1240 (lv_at hl 0 rfl) ?_
      refine lv_i2l (v := x111.toInt64) hx hb dL_law_1242 rfl ?_
      refine zr_nmL hf (fun x116 hf => ?_)
      refine W.lcmp hx hb dL_law_1243 ?_
      refine zr_nmI hf (fun x117 hf => ?_)
      refine lv_if_eq (tgt := 1249) hx hb dL_law_1244 (by decide) (fun c9 => ?_) (fun c9 => ?_)
      · have hf := zif_t c9 hf
        exact m_L_law_b1249 hc hr hin hl0 hZ k28 hk28 h114 a0 a1 a2 a3 a4 v5 _ _ _ _ _ _ hX hf hq hn _ (lv_sub hl [2, 3, 4, 5, 6, 7] rfl)
      · have hf := zif_f c9 hf
        refine lv_iconst (v := (0 : Int32)) hx hb dL_law_1247 (by decide) ?_
        obtain ⟨rfl, rfl, rfl, rfl⟩ := zret_i hf
        obtain ⟨hq1, hq2⟩ := hq
        subst hq1
        subst hq2
        exact hZ _ _ _ _ dL_law_1248 hn
  · have hf := zif_f c9 hf
    refine lv_iconst (v := (0 : Int32)) hx hb dL_law_1230 (by decide) ?_
    obtain ⟨rfl, rfl, rfl, rfl⟩ := zret_i hf
    obtain ⟨hq1, hq2⟩ := hq
    subst hq1
    subst hq2
    exact hZ _ _ _ _ dL_law_1231 hn
set_option maxHeartbeats 4000000 in
set_option maxRecDepth 100000 in
theorem m_L_law_b1329 {p : Program} {l : Launch} {e : Env} {s : State} {m : MethodId} {args : Array Value} {below : List Frame} {meth : Method} {c : Code} {D : va_G} {dA : Nat → ClassId} {b0 : Nat} {gs : Nat → Option Nat} (hc : zC D dA b0 gs x.cls cL_law 9 p c s m args meth) (hr : meth.sig.returnType = ret) (hin : meth.name = x.name) {r : Int32} {hh : PH} {mc ms : Nat} {L : Nat} {xs : Nat → Int32} (hl0 : l.stackTraces = false) {Q : State → Prop} (hZ : ∀ (pc : Nat) (ls : Array Slot) (H : Heap) (locs : List Loc), decode cL_law pc = .ok (.ireturn, 1) → zM D dA b0 gs s hh H locs → W p l e ({ frames := 16, cells := mc, slots := ms, locals := 3214 } : Room) s m args below meth c H locs mc ms Q (F0 m pc ls [.int r])) (k28 : PH → Nat → Nat → Nat → Nat → Nat → Int32 → ZR Int32) (hk28 : ∀ (h : PH) (a0 : Nat) (a1 : Nat) (a2 : Nat) (a3 : Nat) (a4 : Nat) (v5 : Int32) (C9 S9 : Nat) (H : Heap) (locs : List Loc) (cells slots : Nat), va_X a0 L xs s s.heap ∧ a0 < b0 → k28 h a0 a1 a2 a3 a4 v5 = some (r, hh, C9, S9) → cells + C9 = mc ∧ slots + S9 = ms → zM D dA b0 gs s h H locs → ∀ ls : Array Slot, lv_has ls 9 [(0, .ref a0), (1, .ref a1), (2, .ref a2), (3, .ref a3), (4, .ref a4), (5, .int v5)] → W p l e ({ frames := 16, cells := mc, slots := ms, locals := 3214 } : Room) s m args below meth c H locs cells slots Q (F0 m 28 ls [])) : ∀ (h : PH) (a0 : Nat) (a1 : Nat) (a2 : Nat) (a3 : Nat) (a4 : Nat) (v5 : Int32) (C9 S9 : Nat) (H : Heap) (locs : List Loc) (cells slots : Nat), va_X a0 L xs s s.heap ∧ a0 < b0 → f_L_law_b1329 L xs k28 h a0 a1 a2 a3 a4 v5 = some (r, hh, C9, S9) → cells + C9 = mc ∧ slots + S9 = ms → zM D dA b0 gs s h H locs → ∀ ls : Array Slot, lv_has ls 9 [(0, .ref a0), (1, .ref a1), (2, .ref a2), (3, .ref a3), (4, .ref a4), (5, .int v5)] → W p l e ({ frames := 16, cells := mc, slots := ms, locals := 3214 } : Room) s m args below meth c H locs cells slots Q (F0 m 1329 ls []) := by
  have hx := hc.x
  have hb := hc.b
  intro h a0 a1 a2 a3 a4 v5 C9 S9 H locs cells slots hX hf hq hn ls hl
  unfold f_L_law_b1329 at hf
  refine lv_goto (tgt := 3450) hx hb dL_law_1329 (by decide) ?_
  exact m_L_law_b3450 hc hr hin hl0 hZ k28 hk28 h a0 a1 a2 a3 a4 v5 _ _ _ _ _ _ hX hf hq hn _ (lv_sub hl [0, 1, 2, 3, 4, 5] rfl)
set_option maxHeartbeats 4000000 in
set_option maxRecDepth 100000 in
theorem m_L_law_b1252 {p : Program} {l : Launch} {e : Env} {s : State} {m : MethodId} {args : Array Value} {below : List Frame} {meth : Method} {c : Code} {D : va_G} {dA : Nat → ClassId} {b0 : Nat} {gs : Nat → Option Nat} (hc : zC D dA b0 gs x.cls cL_law 9 p c s m args meth) (hr : meth.sig.returnType = ret) (hin : meth.name = x.name) {r : Int32} {hh : PH} {mc ms : Nat} {L : Nat} {xs : Nat → Int32} (hl0 : l.stackTraces = false) {Q : State → Prop} (hZ : ∀ (pc : Nat) (ls : Array Slot) (H : Heap) (locs : List Loc), decode cL_law pc = .ok (.ireturn, 1) → zM D dA b0 gs s hh H locs → W p l e ({ frames := 16, cells := mc, slots := ms, locals := 3214 } : Room) s m args below meth c H locs mc ms Q (F0 m pc ls [.int r])) (k28 : PH → Nat → Nat → Nat → Nat → Nat → Int32 → ZR Int32) (hk28 : ∀ (h : PH) (a0 : Nat) (a1 : Nat) (a2 : Nat) (a3 : Nat) (a4 : Nat) (v5 : Int32) (C9 S9 : Nat) (H : Heap) (locs : List Loc) (cells slots : Nat), va_X a0 L xs s s.heap ∧ a0 < b0 → k28 h a0 a1 a2 a3 a4 v5 = some (r, hh, C9, S9) → cells + C9 = mc ∧ slots + S9 = ms → zM D dA b0 gs s h H locs → ∀ ls : Array Slot, lv_has ls 9 [(0, .ref a0), (1, .ref a1), (2, .ref a2), (3, .ref a3), (4, .ref a4), (5, .int v5)] → W p l e ({ frames := 16, cells := mc, slots := ms, locals := 3214 } : Room) s m args below meth c H locs cells slots Q (F0 m 28 ls [])) : ∀ (h : PH) (a0 : Nat) (a1 : Nat) (a2 : Nat) (a3 : Nat) (a4 : Nat) (v5 : Int32) (C9 S9 : Nat) (H : Heap) (locs : List Loc) (cells slots : Nat), va_X a0 L xs s s.heap ∧ a0 < b0 → f_L_law_b1252 L xs k28 h a0 a1 a2 a3 a4 v5 = some (r, hh, C9, S9) → cells + C9 = mc ∧ slots + S9 = ms → zM D dA b0 gs s h H locs → ∀ ls : Array Slot, lv_has ls 9 [(0, .ref a0), (1, .ref a1), (2, .ref a2), (3, .ref a3), (4, .ref a4), (5, .int v5)] → W p l e ({ frames := 16, cells := mc, slots := ms, locals := 3214 } : Room) s m args below meth c H locs cells slots Q (F0 m 1252 ls []) := by
  have hx := hc.x
  have hb := hc.b
  intro h a0 a1 a2 a3 a4 v5 C9 S9 H locs cells slots hX hf hq hn ls hl
  unfold f_L_law_b1252 at hf
  refine lv_aload_n (x := a1) hx hb dL_law_1252 rfl (lv_at hl 1 rfl) ?_
  refine lv_aload_n (x := a0) hx hb dL_law_1253 rfl (lv_at hl 0 rfl) ?_
  refine lv_iload hx hb dL_law_1254 (lv_at hl 5 rfl) ?_
  refine lv_iconst (v := (1 : Int32)) hx hb dL_law_1256 (by decide) ?_
  refine lv_iadd hx hb dL_law_1257 ?_
  refine zr_nmI hf (fun x101 hf => ?_)
  refine zr_xld hc hn hX hf dL_law_1258 (fun x102 hf => ?_)
  refine lv_aload_n (x := a0) hx hb dL_law_1259 rfl (lv_at hl 0 rfl) ?_
  refine lv_iload hx hb dL_law_1260 (lv_at hl 5 rfl) ?_
  refine lv_iconst (v := (2 : Int32)) hx hb dL_law_1262 (by decide) ?_
  refine lv_iadd hx hb dL_law_1263 ?_
  refine zr_nmI hf (fun x103 hf => ?_)
  refine zr_xld hc hn hX hf dL_law_1264 (fun x104 hf => ?_)
  refine lv_aload_n (x := a0) hx hb dL_law_1265 rfl (lv_at hl 0 rfl) ?_
  refine lv_iload hx hb dL_law_1266 (lv_at hl 5 rfl) ?_
  refine lv_iconst (v := (3 : Int32)) hx hb dL_law_1268 (by decide) ?_
  refine lv_iadd hx hb dL_law_1269 ?_
  refine zr_nmI hf (fun x105 hf => ?_)
  refine zr_xld hc hn hX hf dL_law_1270 (fun x106 hf => ?_)
  refine lv_aload_n (x := a3) hx hb dL_law_1271 rfl (lv_at hl 3 rfl) ?_
  refine zr_cSWI (As := [.ref a1, .int x102, .int x104, .int x106, .ref a3]) (rest := []) hc hn hq hd_X0_linkWidth (lw_SW q1313 q1314 q83 q1315) (Nat.le_of_ble_eq_true rfl) (Nat.le_of_ble_eq_true rfl) (fun _ _ _ _ q => m_X0_linkWidth l hl0 D dA b0 gs h a1 x102 x104 x106 a3 q) hf dL_law_1272 hl.1 rfl rfl (zroom (Nat.le_of_ble_eq_true rfl)) (fun x107 h108 H locs cells slots C9 S9 hf hq hn => ?_)
  refine lv_istore (lv' := [(6, .int x107), (0, .ref a0), (1, .ref a1), (2, .ref a2), (3, .ref a3), (4, .ref a4), (5, .int v5)]) hx hb dL_law_1275 hl (by decide) rfl (fun ls hl => ?_)
  refine lv_aload_n (x := a2) hx hb dL_law_1277 rfl (lv_at hl 3 rfl) ?_
  refine lv_aload_n (x := a0) hx hb dL_law_1278 rfl (lv_at hl 1 rfl) ?_
  refine lv_iload hx hb dL_law_1279 (lv_at hl 6 rfl) ?_
  refine lv_iconst (v := (1 : Int32)) hx hb dL_law_1281 (by decide) ?_
  refine lv_iadd hx hb dL_law_1282 ?_
  refine zr_nmI hf (fun x109 hf => ?_)
  refine zr_xld hc hn hX hf dL_law_1283 (fun x110 hf => ?_)
  refine lv_aload_n (x := a0) hx hb dL_law_1284 rfl (lv_at hl 1 rfl) ?_
  refine lv_iload hx hb dL_law_1285 (lv_at hl 6 rfl) ?_
  refine lv_iconst (v := (2 : Int32)) hx hb dL_law_1287 (by decide) ?_
  refine lv_iadd hx hb dL_law_1288 ?_
  refine zr_nmI hf (fun x111 hf => ?_)
  refine zr_xld hc hn hX hf dL_law_1289 (fun x112 hf => ?_)
  refine lv_aload_n (x := a0) hx hb dL_law_1290 rfl (lv_at hl 1 rfl) ?_
  refine lv_iload hx hb dL_law_1291 (lv_at hl 6 rfl) ?_
  refine lv_iconst (v := (3 : Int32)) hx hb dL_law_1293 (by decide) ?_
  refine lv_iadd hx hb dL_law_1294 ?_
  refine zr_nmI hf (fun x113 hf => ?_)
  refine zr_xld hc hn hX hf dL_law_1295 (fun x114 hf => ?_)
  refine zr_cVI (As := [.int x110, .int x112, .int x114]) (rest := []) hc hn hq (ci := 3) rfl ⟨rfl, hd_X4_linkWidth⟩ (lw_V q2421 q2422 q2423 q91 q2424) (Nat.le_of_ble_eq_true rfl) (Nat.le_of_ble_eq_true rfl) (fun _ _ _ _ q => m_X4_linkWidth l D dA b0 gs h108 a2 x110 x112 x114 q) hf dL_law_1296 hl.1 rfl rfl (zroom (Nat.le_of_ble_eq_true rfl)) (fun x115 h116 H locs cells slots C9 S9 hf hq hn => ?_)
  refine lv_istore (lv' := [(7, .int x115), (6, .int x107), (0, .ref a0), (1, .ref a1), (2, .ref a2), (3, .ref a3), (4, .ref a4), (5, .int v5)]) hx hb dL_law_1299 hl (by decide) rfl (fun ls hl => ?_)
  refine lv_aload_n (x := a2) hx hb dL_law_1301 rfl (lv_at hl 4 rfl) ?_
  refine zr_cVI (As := []) (rest := []) hc hn hq (ci := 3) rfl ⟨rfl, hd_X4_thrown⟩ (lw_V q2195 q2196 q2197 q91 q2198) (Nat.le_of_ble_eq_true rfl) (Nat.le_of_ble_eq_true rfl) (fun _ _ _ _ q => m_X4_thrown l D dA b0 gs h116 a2 q) hf dL_law_1302 hl.1 rfl rfl (zroom (Nat.le_of_ble_eq_true rfl)) (fun x117 h118 H locs cells slots C9 S9 hf hq hn => ?_)
  refine lv_iload hx hb dL_law_1305 (lv_at hl 1 rfl) ?_
  refine lv_icmp_eq (tgt := 1312) hx hb dL_law_1307 (by decide) (fun c9 => ?_) (fun c9 => ?_)
  · have hf := zif_t c9 hf
    refine lv_iload hx hb dL_law_1312 (lv_at hl 1 rfl) ?_
    refine lv_if_ne (tgt := 1329) hx hb dL_law_1314 (by decide) (fun c9 => ?_) (fun c9 => ?_)
    · have hf := zif_f c9 hf
      exact m_L_law_b1329 hc hr hin hl0 hZ k28 hk28 h118 a0 a1 a2 a3 a4 v5 _ _ _ _ _ _ hX hf hq hn _ (lv_sub hl [2, 3, 4, 5, 6, 7] rfl)
    · have hf := zif_t c9 hf
      refine lv_aload_n (x := a3) hx hb dL_law_1317 rfl (lv_at hl 5 rfl) ?_
      refine lv_iconst (v := (0 : Int32)) hx hb dL_law_1318 (by decide) ?_
      refine zr_aL hc hn hf dL_law_1319 (fun x119 hf => ?_)
      refine lv_iload hx hb dL_law_1320 (lv_at hl 0 rfl) ?_
      refine lv_i2l (v := x115.toInt64) hx hb dL_law_1322 rfl ?_
      refine zr_nmL hf (fun x120 hf => ?_)
      refine W.lcmp hx hb dL_law_1323 ?_
      refine zr_nmI hf (fun x121 hf => ?_)
      refine lv_if_eq (tgt := 1329) hx hb dL_law_1324 (by decide) (fun c9 => ?_) (fun c9 => ?_)
      · have hf := zif_t c9 hf
        exact m_L_law_b1329 hc hr hin hl0 hZ k28 hk28 h118 a0 a1 a2 a3 a4 v5 _ _ _ _ _ _ hX hf hq hn _ (lv_sub hl [2, 3, 4, 5, 6, 7] rfl)
      · have hf := zif_f c9 hf
        refine lv_iconst (v := (0 : Int32)) hx hb dL_law_1327 (by decide) ?_
        obtain ⟨rfl, rfl, rfl, rfl⟩ := zret_i hf
        obtain ⟨hq1, hq2⟩ := hq
        subst hq1
        subst hq2
        exact hZ _ _ _ _ dL_law_1328 hn
  · have hf := zif_f c9 hf
    refine lv_iconst (v := (0 : Int32)) hx hb dL_law_1310 (by decide) ?_
    obtain ⟨rfl, rfl, rfl, rfl⟩ := zret_i hf
    obtain ⟨hq1, hq2⟩ := hq
    subst hq1
    subst hq2
    exact hZ _ _ _ _ dL_law_1311 hn
set_option maxHeartbeats 4000000 in
set_option maxRecDepth 100000 in
theorem m_L_law_b1409 {p : Program} {l : Launch} {e : Env} {s : State} {m : MethodId} {args : Array Value} {below : List Frame} {meth : Method} {c : Code} {D : va_G} {dA : Nat → ClassId} {b0 : Nat} {gs : Nat → Option Nat} (hc : zC D dA b0 gs x.cls cL_law 9 p c s m args meth) (hr : meth.sig.returnType = ret) (hin : meth.name = x.name) {r : Int32} {hh : PH} {mc ms : Nat} {L : Nat} {xs : Nat → Int32} (hl0 : l.stackTraces = false) {Q : State → Prop} (hZ : ∀ (pc : Nat) (ls : Array Slot) (H : Heap) (locs : List Loc), decode cL_law pc = .ok (.ireturn, 1) → zM D dA b0 gs s hh H locs → W p l e ({ frames := 16, cells := mc, slots := ms, locals := 3214 } : Room) s m args below meth c H locs mc ms Q (F0 m pc ls [.int r])) (k28 : PH → Nat → Nat → Nat → Nat → Nat → Int32 → ZR Int32) (hk28 : ∀ (h : PH) (a0 : Nat) (a1 : Nat) (a2 : Nat) (a3 : Nat) (a4 : Nat) (v5 : Int32) (C9 S9 : Nat) (H : Heap) (locs : List Loc) (cells slots : Nat), va_X a0 L xs s s.heap ∧ a0 < b0 → k28 h a0 a1 a2 a3 a4 v5 = some (r, hh, C9, S9) → cells + C9 = mc ∧ slots + S9 = ms → zM D dA b0 gs s h H locs → ∀ ls : Array Slot, lv_has ls 9 [(0, .ref a0), (1, .ref a1), (2, .ref a2), (3, .ref a3), (4, .ref a4), (5, .int v5)] → W p l e ({ frames := 16, cells := mc, slots := ms, locals := 3214 } : Room) s m args below meth c H locs cells slots Q (F0 m 28 ls [])) : ∀ (h : PH) (a0 : Nat) (a1 : Nat) (a2 : Nat) (a3 : Nat) (a4 : Nat) (v5 : Int32) (C9 S9 : Nat) (H : Heap) (locs : List Loc) (cells slots : Nat), va_X a0 L xs s s.heap ∧ a0 < b0 → f_L_law_b1409 L xs k28 h a0 a1 a2 a3 a4 v5 = some (r, hh, C9, S9) → cells + C9 = mc ∧ slots + S9 = ms → zM D dA b0 gs s h H locs → ∀ ls : Array Slot, lv_has ls 9 [(0, .ref a0), (1, .ref a1), (2, .ref a2), (3, .ref a3), (4, .ref a4), (5, .int v5)] → W p l e ({ frames := 16, cells := mc, slots := ms, locals := 3214 } : Room) s m args below meth c H locs cells slots Q (F0 m 1409 ls []) := by
  have hx := hc.x
  have hb := hc.b
  intro h a0 a1 a2 a3 a4 v5 C9 S9 H locs cells slots hX hf hq hn ls hl
  unfold f_L_law_b1409 at hf
  refine lv_goto (tgt := 3450) hx hb dL_law_1409 (by decide) ?_
  exact m_L_law_b3450 hc hr hin hl0 hZ k28 hk28 h a0 a1 a2 a3 a4 v5 _ _ _ _ _ _ hX hf hq hn _ (lv_sub hl [0, 1, 2, 3, 4, 5] rfl)
set_option maxHeartbeats 4000000 in
set_option maxRecDepth 100000 in
theorem m_L_law_b1332 {p : Program} {l : Launch} {e : Env} {s : State} {m : MethodId} {args : Array Value} {below : List Frame} {meth : Method} {c : Code} {D : va_G} {dA : Nat → ClassId} {b0 : Nat} {gs : Nat → Option Nat} (hc : zC D dA b0 gs x.cls cL_law 9 p c s m args meth) (hr : meth.sig.returnType = ret) (hin : meth.name = x.name) {r : Int32} {hh : PH} {mc ms : Nat} {L : Nat} {xs : Nat → Int32} (hl0 : l.stackTraces = false) {Q : State → Prop} (hZ : ∀ (pc : Nat) (ls : Array Slot) (H : Heap) (locs : List Loc), decode cL_law pc = .ok (.ireturn, 1) → zM D dA b0 gs s hh H locs → W p l e ({ frames := 16, cells := mc, slots := ms, locals := 3214 } : Room) s m args below meth c H locs mc ms Q (F0 m pc ls [.int r])) (k28 : PH → Nat → Nat → Nat → Nat → Nat → Int32 → ZR Int32) (hk28 : ∀ (h : PH) (a0 : Nat) (a1 : Nat) (a2 : Nat) (a3 : Nat) (a4 : Nat) (v5 : Int32) (C9 S9 : Nat) (H : Heap) (locs : List Loc) (cells slots : Nat), va_X a0 L xs s s.heap ∧ a0 < b0 → k28 h a0 a1 a2 a3 a4 v5 = some (r, hh, C9, S9) → cells + C9 = mc ∧ slots + S9 = ms → zM D dA b0 gs s h H locs → ∀ ls : Array Slot, lv_has ls 9 [(0, .ref a0), (1, .ref a1), (2, .ref a2), (3, .ref a3), (4, .ref a4), (5, .int v5)] → W p l e ({ frames := 16, cells := mc, slots := ms, locals := 3214 } : Room) s m args below meth c H locs cells slots Q (F0 m 28 ls [])) : ∀ (h : PH) (a0 : Nat) (a1 : Nat) (a2 : Nat) (a3 : Nat) (a4 : Nat) (v5 : Int32) (C9 S9 : Nat) (H : Heap) (locs : List Loc) (cells slots : Nat), va_X a0 L xs s s.heap ∧ a0 < b0 → f_L_law_b1332 L xs k28 h a0 a1 a2 a3 a4 v5 = some (r, hh, C9, S9) → cells + C9 = mc ∧ slots + S9 = ms → zM D dA b0 gs s h H locs → ∀ ls : Array Slot, lv_has ls 9 [(0, .ref a0), (1, .ref a1), (2, .ref a2), (3, .ref a3), (4, .ref a4), (5, .int v5)] → W p l e ({ frames := 16, cells := mc, slots := ms, locals := 3214 } : Room) s m args below meth c H locs cells slots Q (F0 m 1332 ls []) := by
  have hx := hc.x
  have hb := hc.b
  intro h a0 a1 a2 a3 a4 v5 C9 S9 H locs cells slots hX hf hq hn ls hl
  unfold f_L_law_b1332 at hf
  refine lv_aload_n (x := a1) hx hb dL_law_1332 rfl (lv_at hl 1 rfl) ?_
  refine lv_aload_n (x := a0) hx hb dL_law_1333 rfl (lv_at hl 0 rfl) ?_
  refine lv_iload hx hb dL_law_1334 (lv_at hl 5 rfl) ?_
  refine lv_iconst (v := (1 : Int32)) hx hb dL_law_1336 (by decide) ?_
  refine lv_iadd hx hb dL_law_1337 ?_
  refine zr_nmI hf (fun x101 hf => ?_)
  refine zr_xld hc hn hX hf dL_law_1338 (fun x102 hf => ?_)
  refine lv_aload_n (x := a0) hx hb dL_law_1339 rfl (lv_at hl 0 rfl) ?_
  refine lv_iload hx hb dL_law_1340 (lv_at hl 5 rfl) ?_
  refine lv_iconst (v := (2 : Int32)) hx hb dL_law_1342 (by decide) ?_
  refine lv_iadd hx hb dL_law_1343 ?_
  refine zr_nmI hf (fun x103 hf => ?_)
  refine zr_xld hc hn hX hf dL_law_1344 (fun x104 hf => ?_)
  refine lv_aload_n (x := a0) hx hb dL_law_1345 rfl (lv_at hl 0 rfl) ?_
  refine lv_iload hx hb dL_law_1346 (lv_at hl 5 rfl) ?_
  refine lv_iconst (v := (3 : Int32)) hx hb dL_law_1348 (by decide) ?_
  refine lv_iadd hx hb dL_law_1349 ?_
  refine zr_nmI hf (fun x105 hf => ?_)
  refine zr_xld hc hn hX hf dL_law_1350 (fun x106 hf => ?_)
  refine lv_aload_n (x := a3) hx hb dL_law_1351 rfl (lv_at hl 3 rfl) ?_
  refine zr_cSWI (As := [.ref a1, .int x102, .int x104, .int x106, .ref a3]) (rest := []) hc hn hq hd_X0_linkSum (lw_SW q1324 q1325 q83 q1326) (Nat.le_of_ble_eq_true rfl) (Nat.le_of_ble_eq_true rfl) (fun _ _ _ _ q => m_X0_linkSum l hl0 D dA b0 gs h a1 x102 x104 x106 a3 q) hf dL_law_1352 hl.1 rfl rfl (zroom (Nat.le_of_ble_eq_true rfl)) (fun x107 h108 H locs cells slots C9 S9 hf hq hn => ?_)
  refine lv_istore (lv' := [(6, .int x107), (0, .ref a0), (1, .ref a1), (2, .ref a2), (3, .ref a3), (4, .ref a4), (5, .int v5)]) hx hb dL_law_1355 hl (by decide) rfl (fun ls hl => ?_)
  refine lv_aload_n (x := a2) hx hb dL_law_1357 rfl (lv_at hl 3 rfl) ?_
  refine lv_aload_n (x := a0) hx hb dL_law_1358 rfl (lv_at hl 1 rfl) ?_
  refine lv_iload hx hb dL_law_1359 (lv_at hl 6 rfl) ?_
  refine lv_iconst (v := (1 : Int32)) hx hb dL_law_1361 (by decide) ?_
  refine lv_iadd hx hb dL_law_1362 ?_
  refine zr_nmI hf (fun x109 hf => ?_)
  refine zr_xld hc hn hX hf dL_law_1363 (fun x110 hf => ?_)
  refine lv_aload_n (x := a0) hx hb dL_law_1364 rfl (lv_at hl 1 rfl) ?_
  refine lv_iload hx hb dL_law_1365 (lv_at hl 6 rfl) ?_
  refine lv_iconst (v := (2 : Int32)) hx hb dL_law_1367 (by decide) ?_
  refine lv_iadd hx hb dL_law_1368 ?_
  refine zr_nmI hf (fun x111 hf => ?_)
  refine zr_xld hc hn hX hf dL_law_1369 (fun x112 hf => ?_)
  refine lv_aload_n (x := a0) hx hb dL_law_1370 rfl (lv_at hl 1 rfl) ?_
  refine lv_iload hx hb dL_law_1371 (lv_at hl 6 rfl) ?_
  refine lv_iconst (v := (3 : Int32)) hx hb dL_law_1373 (by decide) ?_
  refine lv_iadd hx hb dL_law_1374 ?_
  refine zr_nmI hf (fun x113 hf => ?_)
  refine zr_xld hc hn hX hf dL_law_1375 (fun x114 hf => ?_)
  refine zr_cVI (As := [.int x110, .int x112, .int x114]) (rest := []) hc hn hq (ci := 3) rfl ⟨rfl, hd_X4_linkSum⟩ (lw_V q2433 q2434 q2435 q91 q2436) (Nat.le_of_ble_eq_true rfl) (Nat.le_of_ble_eq_true rfl) (fun _ _ _ _ q => m_X4_linkSum l D dA b0 gs h108 a2 x110 x112 x114 q) hf dL_law_1376 hl.1 rfl rfl (zroom (Nat.le_of_ble_eq_true rfl)) (fun x115 h116 H locs cells slots C9 S9 hf hq hn => ?_)
  refine lv_istore (lv' := [(7, .int x115), (6, .int x107), (0, .ref a0), (1, .ref a1), (2, .ref a2), (3, .ref a3), (4, .ref a4), (5, .int v5)]) hx hb dL_law_1379 hl (by decide) rfl (fun ls hl => ?_)
  refine lv_aload_n (x := a2) hx hb dL_law_1381 rfl (lv_at hl 4 rfl) ?_
  refine zr_cVI (As := []) (rest := []) hc hn hq (ci := 3) rfl ⟨rfl, hd_X4_thrown⟩ (lw_V q2195 q2196 q2197 q91 q2198) (Nat.le_of_ble_eq_true rfl) (Nat.le_of_ble_eq_true rfl) (fun _ _ _ _ q => m_X4_thrown l D dA b0 gs h116 a2 q) hf dL_law_1382 hl.1 rfl rfl (zroom (Nat.le_of_ble_eq_true rfl)) (fun x117 h118 H locs cells slots C9 S9 hf hq hn => ?_)
  refine lv_iload hx hb dL_law_1385 (lv_at hl 1 rfl) ?_
  refine lv_icmp_eq (tgt := 1392) hx hb dL_law_1387 (by decide) (fun c9 => ?_) (fun c9 => ?_)
  · have hf := zif_t c9 hf
    refine lv_iload hx hb dL_law_1392 (lv_at hl 1 rfl) ?_
    refine lv_if_ne (tgt := 1409) hx hb dL_law_1394 (by decide) (fun c9 => ?_) (fun c9 => ?_)
    · have hf := zif_f c9 hf
      exact m_L_law_b1409 hc hr hin hl0 hZ k28 hk28 h118 a0 a1 a2 a3 a4 v5 _ _ _ _ _ _ hX hf hq hn _ (lv_sub hl [2, 3, 4, 5, 6, 7] rfl)
    · have hf := zif_t c9 hf
      refine lv_aload_n (x := a3) hx hb dL_law_1397 rfl (lv_at hl 5 rfl) ?_
      refine lv_iconst (v := (0 : Int32)) hx hb dL_law_1398 (by decide) ?_
      refine zr_aL hc hn hf dL_law_1399 (fun x119 hf => ?_)
      refine lv_iload hx hb dL_law_1400 (lv_at hl 0 rfl) ?_
      refine lv_i2l (v := x115.toInt64) hx hb dL_law_1402 rfl ?_
      refine zr_nmL hf (fun x120 hf => ?_)
      refine W.lcmp hx hb dL_law_1403 ?_
      refine zr_nmI hf (fun x121 hf => ?_)
      refine lv_if_eq (tgt := 1409) hx hb dL_law_1404 (by decide) (fun c9 => ?_) (fun c9 => ?_)
      · have hf := zif_t c9 hf
        exact m_L_law_b1409 hc hr hin hl0 hZ k28 hk28 h118 a0 a1 a2 a3 a4 v5 _ _ _ _ _ _ hX hf hq hn _ (lv_sub hl [2, 3, 4, 5, 6, 7] rfl)
      · have hf := zif_f c9 hf
        refine lv_iconst (v := (0 : Int32)) hx hb dL_law_1407 (by decide) ?_
        obtain ⟨rfl, rfl, rfl, rfl⟩ := zret_i hf
        obtain ⟨hq1, hq2⟩ := hq
        subst hq1
        subst hq2
        exact hZ _ _ _ _ dL_law_1408 hn
  · have hf := zif_f c9 hf
    refine lv_iconst (v := (0 : Int32)) hx hb dL_law_1390 (by decide) ?_
    obtain ⟨rfl, rfl, rfl, rfl⟩ := zret_i hf
    obtain ⟨hq1, hq2⟩ := hq
    subst hq1
    subst hq2
    exact hZ _ _ _ _ dL_law_1391 hn
set_option maxHeartbeats 4000000 in
set_option maxRecDepth 100000 in
theorem m_L_law_b1489 {p : Program} {l : Launch} {e : Env} {s : State} {m : MethodId} {args : Array Value} {below : List Frame} {meth : Method} {c : Code} {D : va_G} {dA : Nat → ClassId} {b0 : Nat} {gs : Nat → Option Nat} (hc : zC D dA b0 gs x.cls cL_law 9 p c s m args meth) (hr : meth.sig.returnType = ret) (hin : meth.name = x.name) {r : Int32} {hh : PH} {mc ms : Nat} {L : Nat} {xs : Nat → Int32} (hl0 : l.stackTraces = false) {Q : State → Prop} (hZ : ∀ (pc : Nat) (ls : Array Slot) (H : Heap) (locs : List Loc), decode cL_law pc = .ok (.ireturn, 1) → zM D dA b0 gs s hh H locs → W p l e ({ frames := 16, cells := mc, slots := ms, locals := 3214 } : Room) s m args below meth c H locs mc ms Q (F0 m pc ls [.int r])) (k28 : PH → Nat → Nat → Nat → Nat → Nat → Int32 → ZR Int32) (hk28 : ∀ (h : PH) (a0 : Nat) (a1 : Nat) (a2 : Nat) (a3 : Nat) (a4 : Nat) (v5 : Int32) (C9 S9 : Nat) (H : Heap) (locs : List Loc) (cells slots : Nat), va_X a0 L xs s s.heap ∧ a0 < b0 → k28 h a0 a1 a2 a3 a4 v5 = some (r, hh, C9, S9) → cells + C9 = mc ∧ slots + S9 = ms → zM D dA b0 gs s h H locs → ∀ ls : Array Slot, lv_has ls 9 [(0, .ref a0), (1, .ref a1), (2, .ref a2), (3, .ref a3), (4, .ref a4), (5, .int v5)] → W p l e ({ frames := 16, cells := mc, slots := ms, locals := 3214 } : Room) s m args below meth c H locs cells slots Q (F0 m 28 ls [])) : ∀ (h : PH) (a0 : Nat) (a1 : Nat) (a2 : Nat) (a3 : Nat) (a4 : Nat) (v5 : Int32) (C9 S9 : Nat) (H : Heap) (locs : List Loc) (cells slots : Nat), va_X a0 L xs s s.heap ∧ a0 < b0 → f_L_law_b1489 L xs k28 h a0 a1 a2 a3 a4 v5 = some (r, hh, C9, S9) → cells + C9 = mc ∧ slots + S9 = ms → zM D dA b0 gs s h H locs → ∀ ls : Array Slot, lv_has ls 9 [(0, .ref a0), (1, .ref a1), (2, .ref a2), (3, .ref a3), (4, .ref a4), (5, .int v5)] → W p l e ({ frames := 16, cells := mc, slots := ms, locals := 3214 } : Room) s m args below meth c H locs cells slots Q (F0 m 1489 ls []) := by
  have hx := hc.x
  have hb := hc.b
  intro h a0 a1 a2 a3 a4 v5 C9 S9 H locs cells slots hX hf hq hn ls hl
  unfold f_L_law_b1489 at hf
  refine lv_goto (tgt := 3450) hx hb dL_law_1489 (by decide) ?_
  exact m_L_law_b3450 hc hr hin hl0 hZ k28 hk28 h a0 a1 a2 a3 a4 v5 _ _ _ _ _ _ hX hf hq hn _ (lv_sub hl [0, 1, 2, 3, 4, 5] rfl)
set_option maxHeartbeats 4000000 in
set_option maxRecDepth 100000 in
theorem m_L_law_b1412 {p : Program} {l : Launch} {e : Env} {s : State} {m : MethodId} {args : Array Value} {below : List Frame} {meth : Method} {c : Code} {D : va_G} {dA : Nat → ClassId} {b0 : Nat} {gs : Nat → Option Nat} (hc : zC D dA b0 gs x.cls cL_law 9 p c s m args meth) (hr : meth.sig.returnType = ret) (hin : meth.name = x.name) {r : Int32} {hh : PH} {mc ms : Nat} {L : Nat} {xs : Nat → Int32} (hl0 : l.stackTraces = false) {Q : State → Prop} (hZ : ∀ (pc : Nat) (ls : Array Slot) (H : Heap) (locs : List Loc), decode cL_law pc = .ok (.ireturn, 1) → zM D dA b0 gs s hh H locs → W p l e ({ frames := 16, cells := mc, slots := ms, locals := 3214 } : Room) s m args below meth c H locs mc ms Q (F0 m pc ls [.int r])) (k28 : PH → Nat → Nat → Nat → Nat → Nat → Int32 → ZR Int32) (hk28 : ∀ (h : PH) (a0 : Nat) (a1 : Nat) (a2 : Nat) (a3 : Nat) (a4 : Nat) (v5 : Int32) (C9 S9 : Nat) (H : Heap) (locs : List Loc) (cells slots : Nat), va_X a0 L xs s s.heap ∧ a0 < b0 → k28 h a0 a1 a2 a3 a4 v5 = some (r, hh, C9, S9) → cells + C9 = mc ∧ slots + S9 = ms → zM D dA b0 gs s h H locs → ∀ ls : Array Slot, lv_has ls 9 [(0, .ref a0), (1, .ref a1), (2, .ref a2), (3, .ref a3), (4, .ref a4), (5, .int v5)] → W p l e ({ frames := 16, cells := mc, slots := ms, locals := 3214 } : Room) s m args below meth c H locs cells slots Q (F0 m 28 ls [])) : ∀ (h : PH) (a0 : Nat) (a1 : Nat) (a2 : Nat) (a3 : Nat) (a4 : Nat) (v5 : Int32) (C9 S9 : Nat) (H : Heap) (locs : List Loc) (cells slots : Nat), va_X a0 L xs s s.heap ∧ a0 < b0 → f_L_law_b1412 L xs k28 h a0 a1 a2 a3 a4 v5 = some (r, hh, C9, S9) → cells + C9 = mc ∧ slots + S9 = ms → zM D dA b0 gs s h H locs → ∀ ls : Array Slot, lv_has ls 9 [(0, .ref a0), (1, .ref a1), (2, .ref a2), (3, .ref a3), (4, .ref a4), (5, .int v5)] → W p l e ({ frames := 16, cells := mc, slots := ms, locals := 3214 } : Room) s m args below meth c H locs cells slots Q (F0 m 1412 ls []) := by
  have hx := hc.x
  have hb := hc.b
  intro h a0 a1 a2 a3 a4 v5 C9 S9 H locs cells slots hX hf hq hn ls hl
  unfold f_L_law_b1412 at hf
  refine lv_aload_n (x := a1) hx hb dL_law_1412 rfl (lv_at hl 1 rfl) ?_
  refine lv_aload_n (x := a0) hx hb dL_law_1413 rfl (lv_at hl 0 rfl) ?_
  refine lv_iload hx hb dL_law_1414 (lv_at hl 5 rfl) ?_
  refine lv_iconst (v := (1 : Int32)) hx hb dL_law_1416 (by decide) ?_
  refine lv_iadd hx hb dL_law_1417 ?_
  refine zr_nmI hf (fun x101 hf => ?_)
  refine zr_xld hc hn hX hf dL_law_1418 (fun x102 hf => ?_)
  refine lv_aload_n (x := a0) hx hb dL_law_1419 rfl (lv_at hl 0 rfl) ?_
  refine lv_iload hx hb dL_law_1420 (lv_at hl 5 rfl) ?_
  refine lv_iconst (v := (2 : Int32)) hx hb dL_law_1422 (by decide) ?_
  refine lv_iadd hx hb dL_law_1423 ?_
  refine zr_nmI hf (fun x103 hf => ?_)
  refine zr_xld hc hn hX hf dL_law_1424 (fun x104 hf => ?_)
  refine lv_aload_n (x := a0) hx hb dL_law_1425 rfl (lv_at hl 0 rfl) ?_
  refine lv_iload hx hb dL_law_1426 (lv_at hl 5 rfl) ?_
  refine lv_iconst (v := (3 : Int32)) hx hb dL_law_1428 (by decide) ?_
  refine lv_iadd hx hb dL_law_1429 ?_
  refine zr_nmI hf (fun x105 hf => ?_)
  refine zr_xld hc hn hX hf dL_law_1430 (fun x106 hf => ?_)
  refine lv_aload_n (x := a3) hx hb dL_law_1431 rfl (lv_at hl 3 rfl) ?_
  refine zr_cSWI (As := [.ref a1, .int x102, .int x104, .int x106, .ref a3]) (rest := []) hc hn hq hd_X0_gapSize (lw_SW q1331 q1332 q83 q1333) (Nat.le_of_ble_eq_true rfl) (Nat.le_of_ble_eq_true rfl) (fun _ _ _ _ q => m_X0_gapSize l hl0 D dA b0 gs h a1 x102 x104 x106 a3 q) hf dL_law_1432 hl.1 rfl rfl (zroom (Nat.le_of_ble_eq_true rfl)) (fun x107 h108 H locs cells slots C9 S9 hf hq hn => ?_)
  refine lv_istore (lv' := [(6, .int x107), (0, .ref a0), (1, .ref a1), (2, .ref a2), (3, .ref a3), (4, .ref a4), (5, .int v5)]) hx hb dL_law_1435 hl (by decide) rfl (fun ls hl => ?_)
  refine lv_aload_n (x := a2) hx hb dL_law_1437 rfl (lv_at hl 3 rfl) ?_
  refine lv_aload_n (x := a0) hx hb dL_law_1438 rfl (lv_at hl 1 rfl) ?_
  refine lv_iload hx hb dL_law_1439 (lv_at hl 6 rfl) ?_
  refine lv_iconst (v := (1 : Int32)) hx hb dL_law_1441 (by decide) ?_
  refine lv_iadd hx hb dL_law_1442 ?_
  refine zr_nmI hf (fun x109 hf => ?_)
  refine zr_xld hc hn hX hf dL_law_1443 (fun x110 hf => ?_)
  refine lv_aload_n (x := a0) hx hb dL_law_1444 rfl (lv_at hl 1 rfl) ?_
  refine lv_iload hx hb dL_law_1445 (lv_at hl 6 rfl) ?_
  refine lv_iconst (v := (2 : Int32)) hx hb dL_law_1447 (by decide) ?_
  refine lv_iadd hx hb dL_law_1448 ?_
  refine zr_nmI hf (fun x111 hf => ?_)
  refine zr_xld hc hn hX hf dL_law_1449 (fun x112 hf => ?_)
  refine lv_aload_n (x := a0) hx hb dL_law_1450 rfl (lv_at hl 1 rfl) ?_
  refine lv_iload hx hb dL_law_1451 (lv_at hl 6 rfl) ?_
  refine lv_iconst (v := (3 : Int32)) hx hb dL_law_1453 (by decide) ?_
  refine lv_iadd hx hb dL_law_1454 ?_
  refine zr_nmI hf (fun x113 hf => ?_)
  refine zr_xld hc hn hX hf dL_law_1455 (fun x114 hf => ?_)
  refine zr_cVI (As := [.int x110, .int x112, .int x114]) (rest := []) hc hn hq (ci := 3) rfl ⟨rfl, hd_X4_gapSize⟩ (lw_V q2437 q2438 q2439 q91 q2440) (Nat.le_of_ble_eq_true rfl) (Nat.le_of_ble_eq_true rfl) (fun _ _ _ _ q => m_X4_gapSize l D dA b0 gs h108 a2 x110 x112 x114 q) hf dL_law_1456 hl.1 rfl rfl (zroom (Nat.le_of_ble_eq_true rfl)) (fun x115 h116 H locs cells slots C9 S9 hf hq hn => ?_)
  refine lv_istore (lv' := [(7, .int x115), (6, .int x107), (0, .ref a0), (1, .ref a1), (2, .ref a2), (3, .ref a3), (4, .ref a4), (5, .int v5)]) hx hb dL_law_1459 hl (by decide) rfl (fun ls hl => ?_)
  refine lv_aload_n (x := a2) hx hb dL_law_1461 rfl (lv_at hl 4 rfl) ?_
  refine zr_cVI (As := []) (rest := []) hc hn hq (ci := 3) rfl ⟨rfl, hd_X4_thrown⟩ (lw_V q2195 q2196 q2197 q91 q2198) (Nat.le_of_ble_eq_true rfl) (Nat.le_of_ble_eq_true rfl) (fun _ _ _ _ q => m_X4_thrown l D dA b0 gs h116 a2 q) hf dL_law_1462 hl.1 rfl rfl (zroom (Nat.le_of_ble_eq_true rfl)) (fun x117 h118 H locs cells slots C9 S9 hf hq hn => ?_)
  refine lv_iload hx hb dL_law_1465 (lv_at hl 1 rfl) ?_
  refine lv_icmp_eq (tgt := 1472) hx hb dL_law_1467 (by decide) (fun c9 => ?_) (fun c9 => ?_)
  · have hf := zif_t c9 hf
    refine lv_iload hx hb dL_law_1472 (lv_at hl 1 rfl) ?_
    refine lv_if_ne (tgt := 1489) hx hb dL_law_1474 (by decide) (fun c9 => ?_) (fun c9 => ?_)
    · have hf := zif_f c9 hf
      exact m_L_law_b1489 hc hr hin hl0 hZ k28 hk28 h118 a0 a1 a2 a3 a4 v5 _ _ _ _ _ _ hX hf hq hn _ (lv_sub hl [2, 3, 4, 5, 6, 7] rfl)
    · have hf := zif_t c9 hf
      refine lv_aload_n (x := a3) hx hb dL_law_1477 rfl (lv_at hl 5 rfl) ?_
      refine lv_iconst (v := (0 : Int32)) hx hb dL_law_1478 (by decide) ?_
      refine zr_aL hc hn hf dL_law_1479 (fun x119 hf => ?_)
      refine lv_iload hx hb dL_law_1480 (lv_at hl 0 rfl) ?_
      refine lv_i2l (v := x115.toInt64) hx hb dL_law_1482 rfl ?_
      refine zr_nmL hf (fun x120 hf => ?_)
      refine W.lcmp hx hb dL_law_1483 ?_
      refine zr_nmI hf (fun x121 hf => ?_)
      refine lv_if_eq (tgt := 1489) hx hb dL_law_1484 (by decide) (fun c9 => ?_) (fun c9 => ?_)
      · have hf := zif_t c9 hf
        exact m_L_law_b1489 hc hr hin hl0 hZ k28 hk28 h118 a0 a1 a2 a3 a4 v5 _ _ _ _ _ _ hX hf hq hn _ (lv_sub hl [2, 3, 4, 5, 6, 7] rfl)
      · have hf := zif_f c9 hf
        refine lv_iconst (v := (0 : Int32)) hx hb dL_law_1487 (by decide) ?_
        obtain ⟨rfl, rfl, rfl, rfl⟩ := zret_i hf
        obtain ⟨hq1, hq2⟩ := hq
        subst hq1
        subst hq2
        exact hZ _ _ _ _ dL_law_1488 hn
  · have hf := zif_f c9 hf
    refine lv_iconst (v := (0 : Int32)) hx hb dL_law_1470 (by decide) ?_
    obtain ⟨rfl, rfl, rfl, rfl⟩ := zret_i hf
    obtain ⟨hq1, hq2⟩ := hq
    subst hq1
    subst hq2
    exact hZ _ _ _ _ dL_law_1471 hn
set_option maxHeartbeats 4000000 in
set_option maxRecDepth 100000 in
theorem m_L_law_b1545 {p : Program} {l : Launch} {e : Env} {s : State} {m : MethodId} {args : Array Value} {below : List Frame} {meth : Method} {c : Code} {D : va_G} {dA : Nat → ClassId} {b0 : Nat} {gs : Nat → Option Nat} (hc : zC D dA b0 gs x.cls cL_law 9 p c s m args meth) (hr : meth.sig.returnType = ret) (hin : meth.name = x.name) {r : Int32} {hh : PH} {mc ms : Nat} {L : Nat} {xs : Nat → Int32} (hl0 : l.stackTraces = false) {Q : State → Prop} (hZ : ∀ (pc : Nat) (ls : Array Slot) (H : Heap) (locs : List Loc), decode cL_law pc = .ok (.ireturn, 1) → zM D dA b0 gs s hh H locs → W p l e ({ frames := 16, cells := mc, slots := ms, locals := 3214 } : Room) s m args below meth c H locs mc ms Q (F0 m pc ls [.int r])) (k28 : PH → Nat → Nat → Nat → Nat → Nat → Int32 → ZR Int32) (hk28 : ∀ (h : PH) (a0 : Nat) (a1 : Nat) (a2 : Nat) (a3 : Nat) (a4 : Nat) (v5 : Int32) (C9 S9 : Nat) (H : Heap) (locs : List Loc) (cells slots : Nat), va_X a0 L xs s s.heap ∧ a0 < b0 → k28 h a0 a1 a2 a3 a4 v5 = some (r, hh, C9, S9) → cells + C9 = mc ∧ slots + S9 = ms → zM D dA b0 gs s h H locs → ∀ ls : Array Slot, lv_has ls 9 [(0, .ref a0), (1, .ref a1), (2, .ref a2), (3, .ref a3), (4, .ref a4), (5, .int v5)] → W p l e ({ frames := 16, cells := mc, slots := ms, locals := 3214 } : Room) s m args below meth c H locs cells slots Q (F0 m 28 ls [])) : ∀ (h : PH) (a0 : Nat) (a1 : Nat) (a2 : Nat) (a3 : Nat) (a4 : Nat) (v5 : Int32) (C9 S9 : Nat) (H : Heap) (locs : List Loc) (cells slots : Nat), va_X a0 L xs s s.heap ∧ a0 < b0 → f_L_law_b1545 L xs k28 h a0 a1 a2 a3 a4 v5 = some (r, hh, C9, S9) → cells + C9 = mc ∧ slots + S9 = ms → zM D dA b0 gs s h H locs → ∀ ls : Array Slot, lv_has ls 9 [(0, .ref a0), (1, .ref a1), (2, .ref a2), (3, .ref a3), (4, .ref a4), (5, .int v5)] → W p l e ({ frames := 16, cells := mc, slots := ms, locals := 3214 } : Room) s m args below meth c H locs cells slots Q (F0 m 1545 ls []) := by
  have hx := hc.x
  have hb := hc.b
  intro h a0 a1 a2 a3 a4 v5 C9 S9 H locs cells slots hX hf hq hn ls hl
  unfold f_L_law_b1545 at hf
  refine lv_goto (tgt := 3450) hx hb dL_law_1545 (by decide) ?_
  exact m_L_law_b3450 hc hr hin hl0 hZ k28 hk28 h a0 a1 a2 a3 a4 v5 _ _ _ _ _ _ hX hf hq hn _ (lv_sub hl [0, 1, 2, 3, 4, 5] rfl)
set_option maxHeartbeats 4000000 in
set_option maxRecDepth 100000 in
theorem m_L_law_b1492 {p : Program} {l : Launch} {e : Env} {s : State} {m : MethodId} {args : Array Value} {below : List Frame} {meth : Method} {c : Code} {D : va_G} {dA : Nat → ClassId} {b0 : Nat} {gs : Nat → Option Nat} (hc : zC D dA b0 gs x.cls cL_law 9 p c s m args meth) (hr : meth.sig.returnType = ret) (hin : meth.name = x.name) {r : Int32} {hh : PH} {mc ms : Nat} {L : Nat} {xs : Nat → Int32} (hl0 : l.stackTraces = false) {Q : State → Prop} (hZ : ∀ (pc : Nat) (ls : Array Slot) (H : Heap) (locs : List Loc), decode cL_law pc = .ok (.ireturn, 1) → zM D dA b0 gs s hh H locs → W p l e ({ frames := 16, cells := mc, slots := ms, locals := 3214 } : Room) s m args below meth c H locs mc ms Q (F0 m pc ls [.int r])) (k28 : PH → Nat → Nat → Nat → Nat → Nat → Int32 → ZR Int32) (hk28 : ∀ (h : PH) (a0 : Nat) (a1 : Nat) (a2 : Nat) (a3 : Nat) (a4 : Nat) (v5 : Int32) (C9 S9 : Nat) (H : Heap) (locs : List Loc) (cells slots : Nat), va_X a0 L xs s s.heap ∧ a0 < b0 → k28 h a0 a1 a2 a3 a4 v5 = some (r, hh, C9, S9) → cells + C9 = mc ∧ slots + S9 = ms → zM D dA b0 gs s h H locs → ∀ ls : Array Slot, lv_has ls 9 [(0, .ref a0), (1, .ref a1), (2, .ref a2), (3, .ref a3), (4, .ref a4), (5, .int v5)] → W p l e ({ frames := 16, cells := mc, slots := ms, locals := 3214 } : Room) s m args below meth c H locs cells slots Q (F0 m 28 ls [])) : ∀ (h : PH) (a0 : Nat) (a1 : Nat) (a2 : Nat) (a3 : Nat) (a4 : Nat) (v5 : Int32) (C9 S9 : Nat) (H : Heap) (locs : List Loc) (cells slots : Nat), va_X a0 L xs s s.heap ∧ a0 < b0 → f_L_law_b1492 L xs k28 h a0 a1 a2 a3 a4 v5 = some (r, hh, C9, S9) → cells + C9 = mc ∧ slots + S9 = ms → zM D dA b0 gs s h H locs → ∀ ls : Array Slot, lv_has ls 9 [(0, .ref a0), (1, .ref a1), (2, .ref a2), (3, .ref a3), (4, .ref a4), (5, .int v5)] → W p l e ({ frames := 16, cells := mc, slots := ms, locals := 3214 } : Room) s m args below meth c H locs cells slots Q (F0 m 1492 ls []) := by
  have hx := hc.x
  have hb := hc.b
  intro h a0 a1 a2 a3 a4 v5 C9 S9 H locs cells slots hX hf hq hn ls hl
  unfold f_L_law_b1492 at hf
  refine lv_aload_n (x := a1) hx hb dL_law_1492 rfl (lv_at hl 1 rfl) ?_
  refine lv_aload_n (x := a0) hx hb dL_law_1493 rfl (lv_at hl 0 rfl) ?_
  refine lv_iload hx hb dL_law_1494 (lv_at hl 5 rfl) ?_
  refine lv_iconst (v := (1 : Int32)) hx hb dL_law_1496 (by decide) ?_
  refine lv_iadd hx hb dL_law_1497 ?_
  refine zr_nmI hf (fun x101 hf => ?_)
  refine zr_xld hc hn hX hf dL_law_1498 (fun x102 hf => ?_)
  refine lv_aload_n (x := a3) hx hb dL_law_1499 rfl (lv_at hl 3 rfl) ?_
  refine zr_cSWI (As := [.ref a1, .int x102, .ref a3]) (rest := []) hc hn hq hd_X0_links (lw_SW q1339 q1340 q83 q1341) (Nat.le_of_ble_eq_true rfl) (Nat.le_of_ble_eq_true rfl) (fun _ _ _ _ q => m_X0_links l hl0 D dA b0 gs h a1 x102 a3 q) hf dL_law_1500 hl.1 rfl rfl (zroom (Nat.le_of_ble_eq_true rfl)) (fun x103 h104 H locs cells slots C9 S9 hf hq hn => ?_)
  refine lv_istore (lv' := [(6, .int x103), (0, .ref a0), (1, .ref a1), (2, .ref a2), (3, .ref a3), (4, .ref a4), (5, .int v5)]) hx hb dL_law_1503 hl (by decide) rfl (fun ls hl => ?_)
  refine lv_aload_n (x := a2) hx hb dL_law_1505 rfl (lv_at hl 3 rfl) ?_
  refine lv_aload_n (x := a0) hx hb dL_law_1506 rfl (lv_at hl 1 rfl) ?_
  refine lv_iload hx hb dL_law_1507 (lv_at hl 6 rfl) ?_
  refine lv_iconst (v := (1 : Int32)) hx hb dL_law_1509 (by decide) ?_
  refine lv_iadd hx hb dL_law_1510 ?_
  refine zr_nmI hf (fun x105 hf => ?_)
  refine zr_xld hc hn hX hf dL_law_1511 (fun x106 hf => ?_)
  refine zr_cVI (As := [.int x106]) (rest := []) hc hn hq (ci := 3) rfl ⟨rfl, hd_X4_links⟩ (lw_V q2441 q2442 q2443 q91 q2444) (Nat.le_of_ble_eq_true rfl) (Nat.le_of_ble_eq_true rfl) (fun _ _ _ _ q => m_X4_links l D dA b0 gs h104 a2 x106 q) hf dL_law_1512 hl.1 rfl rfl (zroom (Nat.le_of_ble_eq_true rfl)) (fun x107 h108 H locs cells slots C9 S9 hf hq hn => ?_)
  refine lv_istore (lv' := [(7, .int x107), (6, .int x103), (0, .ref a0), (1, .ref a1), (2, .ref a2), (3, .ref a3), (4, .ref a4), (5, .int v5)]) hx hb dL_law_1515 hl (by decide) rfl (fun ls hl => ?_)
  refine lv_aload_n (x := a2) hx hb dL_law_1517 rfl (lv_at hl 4 rfl) ?_
  refine zr_cVI (As := []) (rest := []) hc hn hq (ci := 3) rfl ⟨rfl, hd_X4_thrown⟩ (lw_V q2195 q2196 q2197 q91 q2198) (Nat.le_of_ble_eq_true rfl) (Nat.le_of_ble_eq_true rfl) (fun _ _ _ _ q => m_X4_thrown l D dA b0 gs h108 a2 q) hf dL_law_1518 hl.1 rfl rfl (zroom (Nat.le_of_ble_eq_true rfl)) (fun x109 h110 H locs cells slots C9 S9 hf hq hn => ?_)
  refine lv_iload hx hb dL_law_1521 (lv_at hl 1 rfl) ?_
  refine lv_icmp_eq (tgt := 1528) hx hb dL_law_1523 (by decide) (fun c9 => ?_) (fun c9 => ?_)
  · have hf := zif_t c9 hf
    refine lv_iload hx hb dL_law_1528 (lv_at hl 1 rfl) ?_
    refine lv_if_ne (tgt := 1545) hx hb dL_law_1530 (by decide) (fun c9 => ?_) (fun c9 => ?_)
    · have hf := zif_f c9 hf
      exact m_L_law_b1545 hc hr hin hl0 hZ k28 hk28 h110 a0 a1 a2 a3 a4 v5 _ _ _ _ _ _ hX hf hq hn _ (lv_sub hl [2, 3, 4, 5, 6, 7] rfl)
    · have hf := zif_t c9 hf
      refine lv_aload_n (x := a3) hx hb dL_law_1533 rfl (lv_at hl 5 rfl) ?_
      refine lv_iconst (v := (0 : Int32)) hx hb dL_law_1534 (by decide) ?_
      refine zr_aL hc hn hf dL_law_1535 (fun x111 hf => ?_)
      refine lv_iload hx hb dL_law_1536 (lv_at hl 0 rfl) ?_
      refine lv_i2l (v := x107.toInt64) hx hb dL_law_1538 rfl ?_
      refine zr_nmL hf (fun x112 hf => ?_)
      refine W.lcmp hx hb dL_law_1539 ?_
      refine zr_nmI hf (fun x113 hf => ?_)
      refine lv_if_eq (tgt := 1545) hx hb dL_law_1540 (by decide) (fun c9 => ?_) (fun c9 => ?_)
      · have hf := zif_t c9 hf
        exact m_L_law_b1545 hc hr hin hl0 hZ k28 hk28 h110 a0 a1 a2 a3 a4 v5 _ _ _ _ _ _ hX hf hq hn _ (lv_sub hl [2, 3, 4, 5, 6, 7] rfl)
      · have hf := zif_f c9 hf
        refine lv_iconst (v := (0 : Int32)) hx hb dL_law_1543 (by decide) ?_
        obtain ⟨rfl, rfl, rfl, rfl⟩ := zret_i hf
        obtain ⟨hq1, hq2⟩ := hq
        subst hq1
        subst hq2
        exact hZ _ _ _ _ dL_law_1544 hn
  · have hf := zif_f c9 hf
    refine lv_iconst (v := (0 : Int32)) hx hb dL_law_1526 (by decide) ?_
    obtain ⟨rfl, rfl, rfl, rfl⟩ := zret_i hf
    obtain ⟨hq1, hq2⟩ := hq
    subst hq1
    subst hq2
    exact hZ _ _ _ _ dL_law_1527 hn
set_option maxHeartbeats 4000000 in
set_option maxRecDepth 100000 in
theorem m_L_law_b1613 {p : Program} {l : Launch} {e : Env} {s : State} {m : MethodId} {args : Array Value} {below : List Frame} {meth : Method} {c : Code} {D : va_G} {dA : Nat → ClassId} {b0 : Nat} {gs : Nat → Option Nat} (hc : zC D dA b0 gs x.cls cL_law 9 p c s m args meth) (hr : meth.sig.returnType = ret) (hin : meth.name = x.name) {r : Int32} {hh : PH} {mc ms : Nat} {L : Nat} {xs : Nat → Int32} (hl0 : l.stackTraces = false) {Q : State → Prop} (hZ : ∀ (pc : Nat) (ls : Array Slot) (H : Heap) (locs : List Loc), decode cL_law pc = .ok (.ireturn, 1) → zM D dA b0 gs s hh H locs → W p l e ({ frames := 16, cells := mc, slots := ms, locals := 3214 } : Room) s m args below meth c H locs mc ms Q (F0 m pc ls [.int r])) (k28 : PH → Nat → Nat → Nat → Nat → Nat → Int32 → ZR Int32) (hk28 : ∀ (h : PH) (a0 : Nat) (a1 : Nat) (a2 : Nat) (a3 : Nat) (a4 : Nat) (v5 : Int32) (C9 S9 : Nat) (H : Heap) (locs : List Loc) (cells slots : Nat), va_X a0 L xs s s.heap ∧ a0 < b0 → k28 h a0 a1 a2 a3 a4 v5 = some (r, hh, C9, S9) → cells + C9 = mc ∧ slots + S9 = ms → zM D dA b0 gs s h H locs → ∀ ls : Array Slot, lv_has ls 9 [(0, .ref a0), (1, .ref a1), (2, .ref a2), (3, .ref a3), (4, .ref a4), (5, .int v5)] → W p l e ({ frames := 16, cells := mc, slots := ms, locals := 3214 } : Room) s m args below meth c H locs cells slots Q (F0 m 28 ls [])) : ∀ (h : PH) (a0 : Nat) (a1 : Nat) (a2 : Nat) (a3 : Nat) (a4 : Nat) (v5 : Int32) (C9 S9 : Nat) (H : Heap) (locs : List Loc) (cells slots : Nat), va_X a0 L xs s s.heap ∧ a0 < b0 → f_L_law_b1613 L xs k28 h a0 a1 a2 a3 a4 v5 = some (r, hh, C9, S9) → cells + C9 = mc ∧ slots + S9 = ms → zM D dA b0 gs s h H locs → ∀ ls : Array Slot, lv_has ls 9 [(0, .ref a0), (1, .ref a1), (2, .ref a2), (3, .ref a3), (4, .ref a4), (5, .int v5)] → W p l e ({ frames := 16, cells := mc, slots := ms, locals := 3214 } : Room) s m args below meth c H locs cells slots Q (F0 m 1613 ls []) := by
  have hx := hc.x
  have hb := hc.b
  intro h a0 a1 a2 a3 a4 v5 C9 S9 H locs cells slots hX hf hq hn ls hl
  unfold f_L_law_b1613 at hf
  refine lv_goto (tgt := 3450) hx hb dL_law_1613 (by decide) ?_
  exact m_L_law_b3450 hc hr hin hl0 hZ k28 hk28 h a0 a1 a2 a3 a4 v5 _ _ _ _ _ _ hX hf hq hn _ (lv_sub hl [0, 1, 2, 3, 4, 5] rfl)
set_option maxHeartbeats 4000000 in
set_option maxRecDepth 100000 in
theorem m_L_law_b1548 {p : Program} {l : Launch} {e : Env} {s : State} {m : MethodId} {args : Array Value} {below : List Frame} {meth : Method} {c : Code} {D : va_G} {dA : Nat → ClassId} {b0 : Nat} {gs : Nat → Option Nat} (hc : zC D dA b0 gs x.cls cL_law 9 p c s m args meth) (hr : meth.sig.returnType = ret) (hin : meth.name = x.name) {r : Int32} {hh : PH} {mc ms : Nat} {L : Nat} {xs : Nat → Int32} (hl0 : l.stackTraces = false) {Q : State → Prop} (hZ : ∀ (pc : Nat) (ls : Array Slot) (H : Heap) (locs : List Loc), decode cL_law pc = .ok (.ireturn, 1) → zM D dA b0 gs s hh H locs → W p l e ({ frames := 16, cells := mc, slots := ms, locals := 3214 } : Room) s m args below meth c H locs mc ms Q (F0 m pc ls [.int r])) (k28 : PH → Nat → Nat → Nat → Nat → Nat → Int32 → ZR Int32) (hk28 : ∀ (h : PH) (a0 : Nat) (a1 : Nat) (a2 : Nat) (a3 : Nat) (a4 : Nat) (v5 : Int32) (C9 S9 : Nat) (H : Heap) (locs : List Loc) (cells slots : Nat), va_X a0 L xs s s.heap ∧ a0 < b0 → k28 h a0 a1 a2 a3 a4 v5 = some (r, hh, C9, S9) → cells + C9 = mc ∧ slots + S9 = ms → zM D dA b0 gs s h H locs → ∀ ls : Array Slot, lv_has ls 9 [(0, .ref a0), (1, .ref a1), (2, .ref a2), (3, .ref a3), (4, .ref a4), (5, .int v5)] → W p l e ({ frames := 16, cells := mc, slots := ms, locals := 3214 } : Room) s m args below meth c H locs cells slots Q (F0 m 28 ls [])) : ∀ (h : PH) (a0 : Nat) (a1 : Nat) (a2 : Nat) (a3 : Nat) (a4 : Nat) (v5 : Int32) (C9 S9 : Nat) (H : Heap) (locs : List Loc) (cells slots : Nat), va_X a0 L xs s s.heap ∧ a0 < b0 → f_L_law_b1548 L xs k28 h a0 a1 a2 a3 a4 v5 = some (r, hh, C9, S9) → cells + C9 = mc ∧ slots + S9 = ms → zM D dA b0 gs s h H locs → ∀ ls : Array Slot, lv_has ls 9 [(0, .ref a0), (1, .ref a1), (2, .ref a2), (3, .ref a3), (4, .ref a4), (5, .int v5)] → W p l e ({ frames := 16, cells := mc, slots := ms, locals := 3214 } : Room) s m args below meth c H locs cells slots Q (F0 m 1548 ls []) := by
  have hx := hc.x
  have hb := hc.b
  intro h a0 a1 a2 a3 a4 v5 C9 S9 H locs cells slots hX hf hq hn ls hl
  unfold f_L_law_b1548 at hf
  refine lv_aload_n (x := a1) hx hb dL_law_1548 rfl (lv_at hl 1 rfl) ?_
  refine lv_aload_n (x := a0) hx hb dL_law_1549 rfl (lv_at hl 0 rfl) ?_
  refine lv_iload hx hb dL_law_1550 (lv_at hl 5 rfl) ?_
  refine lv_iconst (v := (1 : Int32)) hx hb dL_law_1552 (by decide) ?_
  refine lv_iadd hx hb dL_law_1553 ?_
  refine zr_nmI hf (fun x101 hf => ?_)
  refine zr_xld hc hn hX hf dL_law_1554 (fun x102 hf => ?_)
  refine lv_aload_n (x := a0) hx hb dL_law_1555 rfl (lv_at hl 0 rfl) ?_
  refine lv_iload hx hb dL_law_1556 (lv_at hl 5 rfl) ?_
  refine lv_iconst (v := (2 : Int32)) hx hb dL_law_1558 (by decide) ?_
  refine lv_iadd hx hb dL_law_1559 ?_
  refine zr_nmI hf (fun x103 hf => ?_)
  refine zr_xld hc hn hX hf dL_law_1560 (fun x104 hf => ?_)
  refine lv_aload_n (x := a3) hx hb dL_law_1561 rfl (lv_at hl 3 rfl) ?_
  refine zr_cSWI (As := [.ref a1, .int x102, .int x104, .ref a3]) (rest := []) hc hn hq hd_X0_steps (lw_SW q1347 q1348 q83 q1349) (Nat.le_of_ble_eq_true rfl) (Nat.le_of_ble_eq_true rfl) (fun _ _ _ _ q => m_X0_steps l hl0 D dA b0 gs h a1 x102 x104 a3 q) hf dL_law_1562 hl.1 rfl rfl (zroom (Nat.le_of_ble_eq_true rfl)) (fun x105 h106 H locs cells slots C9 S9 hf hq hn => ?_)
  refine lv_istore (lv' := [(6, .int x105), (0, .ref a0), (1, .ref a1), (2, .ref a2), (3, .ref a3), (4, .ref a4), (5, .int v5)]) hx hb dL_law_1565 hl (by decide) rfl (fun ls hl => ?_)
  refine lv_aload_n (x := a2) hx hb dL_law_1567 rfl (lv_at hl 3 rfl) ?_
  refine lv_aload_n (x := a0) hx hb dL_law_1568 rfl (lv_at hl 1 rfl) ?_
  refine lv_iload hx hb dL_law_1569 (lv_at hl 6 rfl) ?_
  refine lv_iconst (v := (1 : Int32)) hx hb dL_law_1571 (by decide) ?_
  refine lv_iadd hx hb dL_law_1572 ?_
  refine zr_nmI hf (fun x107 hf => ?_)
  refine zr_xld hc hn hX hf dL_law_1573 (fun x108 hf => ?_)
  refine lv_aload_n (x := a0) hx hb dL_law_1574 rfl (lv_at hl 1 rfl) ?_
  refine lv_iload hx hb dL_law_1575 (lv_at hl 6 rfl) ?_
  refine lv_iconst (v := (2 : Int32)) hx hb dL_law_1577 (by decide) ?_
  refine lv_iadd hx hb dL_law_1578 ?_
  refine zr_nmI hf (fun x109 hf => ?_)
  refine zr_xld hc hn hX hf dL_law_1579 (fun x110 hf => ?_)
  refine zr_cVI (As := [.int x108, .int x110]) (rest := []) hc hn hq (ci := 3) rfl ⟨rfl, hd_X4_steps⟩ (lw_V q2445 q2446 q2447 q91 q2448) (Nat.le_of_ble_eq_true rfl) (Nat.le_of_ble_eq_true rfl) (fun _ _ _ _ q => m_X4_steps l D dA b0 gs h106 a2 x108 x110 q) hf dL_law_1580 hl.1 rfl rfl (zroom (Nat.le_of_ble_eq_true rfl)) (fun x111 h112 H locs cells slots C9 S9 hf hq hn => ?_)
  refine lv_istore (lv' := [(7, .int x111), (6, .int x105), (0, .ref a0), (1, .ref a1), (2, .ref a2), (3, .ref a3), (4, .ref a4), (5, .int v5)]) hx hb dL_law_1583 hl (by decide) rfl (fun ls hl => ?_)
  refine lv_aload_n (x := a2) hx hb dL_law_1585 rfl (lv_at hl 4 rfl) ?_
  refine zr_cVI (As := []) (rest := []) hc hn hq (ci := 3) rfl ⟨rfl, hd_X4_thrown⟩ (lw_V q2195 q2196 q2197 q91 q2198) (Nat.le_of_ble_eq_true rfl) (Nat.le_of_ble_eq_true rfl) (fun _ _ _ _ q => m_X4_thrown l D dA b0 gs h112 a2 q) hf dL_law_1586 hl.1 rfl rfl (zroom (Nat.le_of_ble_eq_true rfl)) (fun x113 h114 H locs cells slots C9 S9 hf hq hn => ?_)
  refine lv_iload hx hb dL_law_1589 (lv_at hl 1 rfl) ?_
  refine lv_icmp_eq (tgt := 1596) hx hb dL_law_1591 (by decide) (fun c9 => ?_) (fun c9 => ?_)
  · have hf := zif_t c9 hf
    refine lv_iload hx hb dL_law_1596 (lv_at hl 1 rfl) ?_
    refine lv_if_ne (tgt := 1613) hx hb dL_law_1598 (by decide) (fun c9 => ?_) (fun c9 => ?_)
    · have hf := zif_f c9 hf
      exact m_L_law_b1613 hc hr hin hl0 hZ k28 hk28 h114 a0 a1 a2 a3 a4 v5 _ _ _ _ _ _ hX hf hq hn _ (lv_sub hl [2, 3, 4, 5, 6, 7] rfl)
    · have hf := zif_t c9 hf
      refine lv_aload_n (x := a3) hx hb dL_law_1601 rfl (lv_at hl 5 rfl) ?_
      refine lv_iconst (v := (0 : Int32)) hx hb dL_law_1602 (by decide) ?_
      refine zr_aL hc hn hf dL_law_1603 (fun x115 hf => ?_)
      refine lv_iload hx hb dL_law_1604 (lv_at hl 0 rfl) ?_
      refine lv_i2l (v := x111.toInt64) hx hb dL_law_1606 rfl ?_
      refine zr_nmL hf (fun x116 hf => ?_)
      refine W.lcmp hx hb dL_law_1607 ?_
      refine zr_nmI hf (fun x117 hf => ?_)
      refine lv_if_eq (tgt := 1613) hx hb dL_law_1608 (by decide) (fun c9 => ?_) (fun c9 => ?_)
      · have hf := zif_t c9 hf
        exact m_L_law_b1613 hc hr hin hl0 hZ k28 hk28 h114 a0 a1 a2 a3 a4 v5 _ _ _ _ _ _ hX hf hq hn _ (lv_sub hl [2, 3, 4, 5, 6, 7] rfl)
      · have hf := zif_f c9 hf
        refine lv_iconst (v := (0 : Int32)) hx hb dL_law_1611 (by decide) ?_
        obtain ⟨rfl, rfl, rfl, rfl⟩ := zret_i hf
        obtain ⟨hq1, hq2⟩ := hq
        subst hq1
        subst hq2
        exact hZ _ _ _ _ dL_law_1612 hn
  · have hf := zif_f c9 hf
    refine lv_iconst (v := (0 : Int32)) hx hb dL_law_1594 (by decide) ?_
    obtain ⟨rfl, rfl, rfl, rfl⟩ := zret_i hf
    obtain ⟨hq1, hq2⟩ := hq
    subst hq1
    subst hq2
    exact hZ _ _ _ _ dL_law_1595 hn
set_option maxHeartbeats 4000000 in
set_option maxRecDepth 100000 in
theorem m_L_law_b1681 {p : Program} {l : Launch} {e : Env} {s : State} {m : MethodId} {args : Array Value} {below : List Frame} {meth : Method} {c : Code} {D : va_G} {dA : Nat → ClassId} {b0 : Nat} {gs : Nat → Option Nat} (hc : zC D dA b0 gs x.cls cL_law 9 p c s m args meth) (hr : meth.sig.returnType = ret) (hin : meth.name = x.name) {r : Int32} {hh : PH} {mc ms : Nat} {L : Nat} {xs : Nat → Int32} (hl0 : l.stackTraces = false) {Q : State → Prop} (hZ : ∀ (pc : Nat) (ls : Array Slot) (H : Heap) (locs : List Loc), decode cL_law pc = .ok (.ireturn, 1) → zM D dA b0 gs s hh H locs → W p l e ({ frames := 16, cells := mc, slots := ms, locals := 3214 } : Room) s m args below meth c H locs mc ms Q (F0 m pc ls [.int r])) (k28 : PH → Nat → Nat → Nat → Nat → Nat → Int32 → ZR Int32) (hk28 : ∀ (h : PH) (a0 : Nat) (a1 : Nat) (a2 : Nat) (a3 : Nat) (a4 : Nat) (v5 : Int32) (C9 S9 : Nat) (H : Heap) (locs : List Loc) (cells slots : Nat), va_X a0 L xs s s.heap ∧ a0 < b0 → k28 h a0 a1 a2 a3 a4 v5 = some (r, hh, C9, S9) → cells + C9 = mc ∧ slots + S9 = ms → zM D dA b0 gs s h H locs → ∀ ls : Array Slot, lv_has ls 9 [(0, .ref a0), (1, .ref a1), (2, .ref a2), (3, .ref a3), (4, .ref a4), (5, .int v5)] → W p l e ({ frames := 16, cells := mc, slots := ms, locals := 3214 } : Room) s m args below meth c H locs cells slots Q (F0 m 28 ls [])) : ∀ (h : PH) (a0 : Nat) (a1 : Nat) (a2 : Nat) (a3 : Nat) (a4 : Nat) (v5 : Int32) (C9 S9 : Nat) (H : Heap) (locs : List Loc) (cells slots : Nat), va_X a0 L xs s s.heap ∧ a0 < b0 → f_L_law_b1681 L xs k28 h a0 a1 a2 a3 a4 v5 = some (r, hh, C9, S9) → cells + C9 = mc ∧ slots + S9 = ms → zM D dA b0 gs s h H locs → ∀ ls : Array Slot, lv_has ls 9 [(0, .ref a0), (1, .ref a1), (2, .ref a2), (3, .ref a3), (4, .ref a4), (5, .int v5)] → W p l e ({ frames := 16, cells := mc, slots := ms, locals := 3214 } : Room) s m args below meth c H locs cells slots Q (F0 m 1681 ls []) := by
  have hx := hc.x
  have hb := hc.b
  intro h a0 a1 a2 a3 a4 v5 C9 S9 H locs cells slots hX hf hq hn ls hl
  unfold f_L_law_b1681 at hf
  refine lv_goto (tgt := 3450) hx hb dL_law_1681 (by decide) ?_
  exact m_L_law_b3450 hc hr hin hl0 hZ k28 hk28 h a0 a1 a2 a3 a4 v5 _ _ _ _ _ _ hX hf hq hn _ (lv_sub hl [0, 1, 2, 3, 4, 5] rfl)
set_option maxHeartbeats 4000000 in
set_option maxRecDepth 100000 in
theorem m_L_law_b1616 {p : Program} {l : Launch} {e : Env} {s : State} {m : MethodId} {args : Array Value} {below : List Frame} {meth : Method} {c : Code} {D : va_G} {dA : Nat → ClassId} {b0 : Nat} {gs : Nat → Option Nat} (hc : zC D dA b0 gs x.cls cL_law 9 p c s m args meth) (hr : meth.sig.returnType = ret) (hin : meth.name = x.name) {r : Int32} {hh : PH} {mc ms : Nat} {L : Nat} {xs : Nat → Int32} (hl0 : l.stackTraces = false) {Q : State → Prop} (hZ : ∀ (pc : Nat) (ls : Array Slot) (H : Heap) (locs : List Loc), decode cL_law pc = .ok (.ireturn, 1) → zM D dA b0 gs s hh H locs → W p l e ({ frames := 16, cells := mc, slots := ms, locals := 3214 } : Room) s m args below meth c H locs mc ms Q (F0 m pc ls [.int r])) (k28 : PH → Nat → Nat → Nat → Nat → Nat → Int32 → ZR Int32) (hk28 : ∀ (h : PH) (a0 : Nat) (a1 : Nat) (a2 : Nat) (a3 : Nat) (a4 : Nat) (v5 : Int32) (C9 S9 : Nat) (H : Heap) (locs : List Loc) (cells slots : Nat), va_X a0 L xs s s.heap ∧ a0 < b0 → k28 h a0 a1 a2 a3 a4 v5 = some (r, hh, C9, S9) → cells + C9 = mc ∧ slots + S9 = ms → zM D dA b0 gs s h H locs → ∀ ls : Array Slot, lv_has ls 9 [(0, .ref a0), (1, .ref a1), (2, .ref a2), (3, .ref a3), (4, .ref a4), (5, .int v5)] → W p l e ({ frames := 16, cells := mc, slots := ms, locals := 3214 } : Room) s m args below meth c H locs cells slots Q (F0 m 28 ls [])) : ∀ (h : PH) (a0 : Nat) (a1 : Nat) (a2 : Nat) (a3 : Nat) (a4 : Nat) (v5 : Int32) (C9 S9 : Nat) (H : Heap) (locs : List Loc) (cells slots : Nat), va_X a0 L xs s s.heap ∧ a0 < b0 → f_L_law_b1616 L xs k28 h a0 a1 a2 a3 a4 v5 = some (r, hh, C9, S9) → cells + C9 = mc ∧ slots + S9 = ms → zM D dA b0 gs s h H locs → ∀ ls : Array Slot, lv_has ls 9 [(0, .ref a0), (1, .ref a1), (2, .ref a2), (3, .ref a3), (4, .ref a4), (5, .int v5)] → W p l e ({ frames := 16, cells := mc, slots := ms, locals := 3214 } : Room) s m args below meth c H locs cells slots Q (F0 m 1616 ls []) := by
  have hx := hc.x
  have hb := hc.b
  intro h a0 a1 a2 a3 a4 v5 C9 S9 H locs cells slots hX hf hq hn ls hl
  unfold f_L_law_b1616 at hf
  refine lv_aload_n (x := a1) hx hb dL_law_1616 rfl (lv_at hl 1 rfl) ?_
  refine lv_aload_n (x := a0) hx hb dL_law_1617 rfl (lv_at hl 0 rfl) ?_
  refine lv_iload hx hb dL_law_1618 (lv_at hl 5 rfl) ?_
  refine lv_iconst (v := (1 : Int32)) hx hb dL_law_1620 (by decide) ?_
  refine lv_iadd hx hb dL_law_1621 ?_
  refine zr_nmI hf (fun x101 hf => ?_)
  refine zr_xld hc hn hX hf dL_law_1622 (fun x102 hf => ?_)
  refine lv_aload_n (x := a0) hx hb dL_law_1623 rfl (lv_at hl 0 rfl) ?_
  refine lv_iload hx hb dL_law_1624 (lv_at hl 5 rfl) ?_
  refine lv_iconst (v := (2 : Int32)) hx hb dL_law_1626 (by decide) ?_
  refine lv_iadd hx hb dL_law_1627 ?_
  refine zr_nmI hf (fun x103 hf => ?_)
  refine zr_xld hc hn hX hf dL_law_1628 (fun x104 hf => ?_)
  refine lv_aload_n (x := a3) hx hb dL_law_1629 rfl (lv_at hl 3 rfl) ?_
  refine zr_cSWI (As := [.ref a1, .int x102, .int x104, .ref a3]) (rest := []) hc hn hq hd_X0_looks (lw_SW q1386 q1387 q83 q1388) (Nat.le_of_ble_eq_true rfl) (Nat.le_of_ble_eq_true rfl) (fun _ _ _ _ q => m_X0_looks l hl0 D dA b0 gs h a1 x102 x104 a3 q) hf dL_law_1630 hl.1 rfl rfl (zroom (Nat.le_of_ble_eq_true rfl)) (fun x105 h106 H locs cells slots C9 S9 hf hq hn => ?_)
  refine lv_istore (lv' := [(6, .int x105), (0, .ref a0), (1, .ref a1), (2, .ref a2), (3, .ref a3), (4, .ref a4), (5, .int v5)]) hx hb dL_law_1633 hl (by decide) rfl (fun ls hl => ?_)
  refine lv_aload_n (x := a2) hx hb dL_law_1635 rfl (lv_at hl 3 rfl) ?_
  refine lv_aload_n (x := a0) hx hb dL_law_1636 rfl (lv_at hl 1 rfl) ?_
  refine lv_iload hx hb dL_law_1637 (lv_at hl 6 rfl) ?_
  refine lv_iconst (v := (1 : Int32)) hx hb dL_law_1639 (by decide) ?_
  refine lv_iadd hx hb dL_law_1640 ?_
  refine zr_nmI hf (fun x107 hf => ?_)
  refine zr_xld hc hn hX hf dL_law_1641 (fun x108 hf => ?_)
  refine lv_aload_n (x := a0) hx hb dL_law_1642 rfl (lv_at hl 1 rfl) ?_
  refine lv_iload hx hb dL_law_1643 (lv_at hl 6 rfl) ?_
  refine lv_iconst (v := (2 : Int32)) hx hb dL_law_1645 (by decide) ?_
  refine lv_iadd hx hb dL_law_1646 ?_
  refine zr_nmI hf (fun x109 hf => ?_)
  refine zr_xld hc hn hX hf dL_law_1647 (fun x110 hf => ?_)
  refine zr_cVI (As := [.int x108, .int x110]) (rest := []) hc hn hq (ci := 3) rfl ⟨rfl, hd_X4_looks⟩ (lw_V q2453 q2454 q2455 q91 q2456) (Nat.le_of_ble_eq_true rfl) (Nat.le_of_ble_eq_true rfl) (fun _ _ _ _ q => m_X4_looks l D dA b0 gs h106 a2 x108 x110 q) hf dL_law_1648 hl.1 rfl rfl (zroom (Nat.le_of_ble_eq_true rfl)) (fun x111 h112 H locs cells slots C9 S9 hf hq hn => ?_)
  refine lv_istore (lv' := [(7, .int x111), (6, .int x105), (0, .ref a0), (1, .ref a1), (2, .ref a2), (3, .ref a3), (4, .ref a4), (5, .int v5)]) hx hb dL_law_1651 hl (by decide) rfl (fun ls hl => ?_)
  refine lv_aload_n (x := a2) hx hb dL_law_1653 rfl (lv_at hl 4 rfl) ?_
  refine zr_cVI (As := []) (rest := []) hc hn hq (ci := 3) rfl ⟨rfl, hd_X4_thrown⟩ (lw_V q2195 q2196 q2197 q91 q2198) (Nat.le_of_ble_eq_true rfl) (Nat.le_of_ble_eq_true rfl) (fun _ _ _ _ q => m_X4_thrown l D dA b0 gs h112 a2 q) hf dL_law_1654 hl.1 rfl rfl (zroom (Nat.le_of_ble_eq_true rfl)) (fun x113 h114 H locs cells slots C9 S9 hf hq hn => ?_)
  refine lv_iload hx hb dL_law_1657 (lv_at hl 1 rfl) ?_
  refine lv_icmp_eq (tgt := 1664) hx hb dL_law_1659 (by decide) (fun c9 => ?_) (fun c9 => ?_)
  · have hf := zif_t c9 hf
    refine lv_iload hx hb dL_law_1664 (lv_at hl 1 rfl) ?_
    refine lv_if_ne (tgt := 1681) hx hb dL_law_1666 (by decide) (fun c9 => ?_) (fun c9 => ?_)
    · have hf := zif_f c9 hf
      exact m_L_law_b1681 hc hr hin hl0 hZ k28 hk28 h114 a0 a1 a2 a3 a4 v5 _ _ _ _ _ _ hX hf hq hn _ (lv_sub hl [2, 3, 4, 5, 6, 7] rfl)
    · have hf := zif_t c9 hf
      refine lv_aload_n (x := a3) hx hb dL_law_1669 rfl (lv_at hl 5 rfl) ?_
      refine lv_iconst (v := (0 : Int32)) hx hb dL_law_1670 (by decide) ?_
      refine zr_aL hc hn hf dL_law_1671 (fun x115 hf => ?_)
      refine lv_iload hx hb dL_law_1672 (lv_at hl 0 rfl) ?_
      refine lv_i2l (v := x111.toInt64) hx hb dL_law_1674 rfl ?_
      refine zr_nmL hf (fun x116 hf => ?_)
      refine W.lcmp hx hb dL_law_1675 ?_
      refine zr_nmI hf (fun x117 hf => ?_)
      refine lv_if_eq (tgt := 1681) hx hb dL_law_1676 (by decide) (fun c9 => ?_) (fun c9 => ?_)
      · have hf := zif_t c9 hf
        exact m_L_law_b1681 hc hr hin hl0 hZ k28 hk28 h114 a0 a1 a2 a3 a4 v5 _ _ _ _ _ _ hX hf hq hn _ (lv_sub hl [2, 3, 4, 5, 6, 7] rfl)
      · have hf := zif_f c9 hf
        refine lv_iconst (v := (0 : Int32)) hx hb dL_law_1679 (by decide) ?_
        obtain ⟨rfl, rfl, rfl, rfl⟩ := zret_i hf
        obtain ⟨hq1, hq2⟩ := hq
        subst hq1
        subst hq2
        exact hZ _ _ _ _ dL_law_1680 hn
  · have hf := zif_f c9 hf
    refine lv_iconst (v := (0 : Int32)) hx hb dL_law_1662 (by decide) ?_
    obtain ⟨rfl, rfl, rfl, rfl⟩ := zret_i hf
    obtain ⟨hq1, hq2⟩ := hq
    subst hq1
    subst hq2
    exact hZ _ _ _ _ dL_law_1663 hn
set_option maxHeartbeats 4000000 in
set_option maxRecDepth 100000 in
theorem m_L_law_b1761 {p : Program} {l : Launch} {e : Env} {s : State} {m : MethodId} {args : Array Value} {below : List Frame} {meth : Method} {c : Code} {D : va_G} {dA : Nat → ClassId} {b0 : Nat} {gs : Nat → Option Nat} (hc : zC D dA b0 gs x.cls cL_law 9 p c s m args meth) (hr : meth.sig.returnType = ret) (hin : meth.name = x.name) {r : Int32} {hh : PH} {mc ms : Nat} {L : Nat} {xs : Nat → Int32} (hl0 : l.stackTraces = false) {Q : State → Prop} (hZ : ∀ (pc : Nat) (ls : Array Slot) (H : Heap) (locs : List Loc), decode cL_law pc = .ok (.ireturn, 1) → zM D dA b0 gs s hh H locs → W p l e ({ frames := 16, cells := mc, slots := ms, locals := 3214 } : Room) s m args below meth c H locs mc ms Q (F0 m pc ls [.int r])) (k28 : PH → Nat → Nat → Nat → Nat → Nat → Int32 → ZR Int32) (hk28 : ∀ (h : PH) (a0 : Nat) (a1 : Nat) (a2 : Nat) (a3 : Nat) (a4 : Nat) (v5 : Int32) (C9 S9 : Nat) (H : Heap) (locs : List Loc) (cells slots : Nat), va_X a0 L xs s s.heap ∧ a0 < b0 → k28 h a0 a1 a2 a3 a4 v5 = some (r, hh, C9, S9) → cells + C9 = mc ∧ slots + S9 = ms → zM D dA b0 gs s h H locs → ∀ ls : Array Slot, lv_has ls 9 [(0, .ref a0), (1, .ref a1), (2, .ref a2), (3, .ref a3), (4, .ref a4), (5, .int v5)] → W p l e ({ frames := 16, cells := mc, slots := ms, locals := 3214 } : Room) s m args below meth c H locs cells slots Q (F0 m 28 ls [])) : ∀ (h : PH) (a0 : Nat) (a1 : Nat) (a2 : Nat) (a3 : Nat) (a4 : Nat) (v5 : Int32) (C9 S9 : Nat) (H : Heap) (locs : List Loc) (cells slots : Nat), va_X a0 L xs s s.heap ∧ a0 < b0 → f_L_law_b1761 L xs k28 h a0 a1 a2 a3 a4 v5 = some (r, hh, C9, S9) → cells + C9 = mc ∧ slots + S9 = ms → zM D dA b0 gs s h H locs → ∀ ls : Array Slot, lv_has ls 9 [(0, .ref a0), (1, .ref a1), (2, .ref a2), (3, .ref a3), (4, .ref a4), (5, .int v5)] → W p l e ({ frames := 16, cells := mc, slots := ms, locals := 3214 } : Room) s m args below meth c H locs cells slots Q (F0 m 1761 ls []) := by
  have hx := hc.x
  have hb := hc.b
  intro h a0 a1 a2 a3 a4 v5 C9 S9 H locs cells slots hX hf hq hn ls hl
  unfold f_L_law_b1761 at hf
  refine lv_goto (tgt := 3450) hx hb dL_law_1761 (by decide) ?_
  exact m_L_law_b3450 hc hr hin hl0 hZ k28 hk28 h a0 a1 a2 a3 a4 v5 _ _ _ _ _ _ hX hf hq hn _ (lv_sub hl [0, 1, 2, 3, 4, 5] rfl)
set_option maxHeartbeats 4000000 in
set_option maxRecDepth 100000 in
theorem m_L_law_b1684 {p : Program} {l : Launch} {e : Env} {s : State} {m : MethodId} {args : Array Value} {below : List Frame} {meth : Method} {c : Code} {D : va_G} {dA : Nat → ClassId} {b0 : Nat} {gs : Nat → Option Nat} (hc : zC D dA b0 gs x.cls cL_law 9 p c s m args meth) (hr : meth.sig.returnType = ret) (hin : meth.name = x.name) {r : Int32} {hh : PH} {mc ms : Nat} {L : Nat} {xs : Nat → Int32} (hl0 : l.stackTraces = false) {Q : State → Prop} (hZ : ∀ (pc : Nat) (ls : Array Slot) (H : Heap) (locs : List Loc), decode cL_law pc = .ok (.ireturn, 1) → zM D dA b0 gs s hh H locs → W p l e ({ frames := 16, cells := mc, slots := ms, locals := 3214 } : Room) s m args below meth c H locs mc ms Q (F0 m pc ls [.int r])) (k28 : PH → Nat → Nat → Nat → Nat → Nat → Int32 → ZR Int32) (hk28 : ∀ (h : PH) (a0 : Nat) (a1 : Nat) (a2 : Nat) (a3 : Nat) (a4 : Nat) (v5 : Int32) (C9 S9 : Nat) (H : Heap) (locs : List Loc) (cells slots : Nat), va_X a0 L xs s s.heap ∧ a0 < b0 → k28 h a0 a1 a2 a3 a4 v5 = some (r, hh, C9, S9) → cells + C9 = mc ∧ slots + S9 = ms → zM D dA b0 gs s h H locs → ∀ ls : Array Slot, lv_has ls 9 [(0, .ref a0), (1, .ref a1), (2, .ref a2), (3, .ref a3), (4, .ref a4), (5, .int v5)] → W p l e ({ frames := 16, cells := mc, slots := ms, locals := 3214 } : Room) s m args below meth c H locs cells slots Q (F0 m 28 ls [])) : ∀ (h : PH) (a0 : Nat) (a1 : Nat) (a2 : Nat) (a3 : Nat) (a4 : Nat) (v5 : Int32) (C9 S9 : Nat) (H : Heap) (locs : List Loc) (cells slots : Nat), va_X a0 L xs s s.heap ∧ a0 < b0 → f_L_law_b1684 L xs k28 h a0 a1 a2 a3 a4 v5 = some (r, hh, C9, S9) → cells + C9 = mc ∧ slots + S9 = ms → zM D dA b0 gs s h H locs → ∀ ls : Array Slot, lv_has ls 9 [(0, .ref a0), (1, .ref a1), (2, .ref a2), (3, .ref a3), (4, .ref a4), (5, .int v5)] → W p l e ({ frames := 16, cells := mc, slots := ms, locals := 3214 } : Room) s m args below meth c H locs cells slots Q (F0 m 1684 ls []) := by
  have hx := hc.x
  have hb := hc.b
  intro h a0 a1 a2 a3 a4 v5 C9 S9 H locs cells slots hX hf hq hn ls hl
  unfold f_L_law_b1684 at hf
  refine lv_aload_n (x := a1) hx hb dL_law_1684 rfl (lv_at hl 1 rfl) ?_
  refine lv_aload_n (x := a0) hx hb dL_law_1685 rfl (lv_at hl 0 rfl) ?_
  refine lv_iload hx hb dL_law_1686 (lv_at hl 5 rfl) ?_
  refine lv_iconst (v := (1 : Int32)) hx hb dL_law_1688 (by decide) ?_
  refine lv_iadd hx hb dL_law_1689 ?_
  refine zr_nmI hf (fun x101 hf => ?_)
  refine zr_xld hc hn hX hf dL_law_1690 (fun x102 hf => ?_)
  refine lv_aload_n (x := a0) hx hb dL_law_1691 rfl (lv_at hl 0 rfl) ?_
  refine lv_iload hx hb dL_law_1692 (lv_at hl 5 rfl) ?_
  refine lv_iconst (v := (2 : Int32)) hx hb dL_law_1694 (by decide) ?_
  refine lv_iadd hx hb dL_law_1695 ?_
  refine zr_nmI hf (fun x103 hf => ?_)
  refine zr_xld hc hn hX hf dL_law_1696 (fun x104 hf => ?_)
  refine lv_aload_n (x := a0) hx hb dL_law_1697 rfl (lv_at hl 0 rfl) ?_
  refine lv_iload hx hb dL_law_1698 (lv_at hl 5 rfl) ?_
  refine lv_iconst (v := (3 : Int32)) hx hb dL_law_1700 (by decide) ?_
  refine lv_iadd hx hb dL_law_1701 ?_
  refine zr_nmI hf (fun x105 hf => ?_)
  refine zr_xld hc hn hX hf dL_law_1702 (fun x106 hf => ?_)
  refine lv_aload_n (x := a3) hx hb dL_law_1703 rfl (lv_at hl 3 rfl) ?_
  refine zr_cSWI (As := [.ref a1, .int x102, .int x104, .int x106, .ref a3]) (rest := []) hc hn hq hd_X0_stepKey (lw_SW q1393 q1394 q83 q1395) (Nat.le_of_ble_eq_true rfl) (Nat.le_of_ble_eq_true rfl) (fun _ _ _ _ q => m_X0_stepKey l hl0 D dA b0 gs h a1 x102 x104 x106 a3 q) hf dL_law_1704 hl.1 rfl rfl (zroom (Nat.le_of_ble_eq_true rfl)) (fun x107 h108 H locs cells slots C9 S9 hf hq hn => ?_)
  refine lv_istore (lv' := [(6, .int x107), (0, .ref a0), (1, .ref a1), (2, .ref a2), (3, .ref a3), (4, .ref a4), (5, .int v5)]) hx hb dL_law_1707 hl (by decide) rfl (fun ls hl => ?_)
  refine lv_aload_n (x := a2) hx hb dL_law_1709 rfl (lv_at hl 3 rfl) ?_
  refine lv_aload_n (x := a0) hx hb dL_law_1710 rfl (lv_at hl 1 rfl) ?_
  refine lv_iload hx hb dL_law_1711 (lv_at hl 6 rfl) ?_
  refine lv_iconst (v := (1 : Int32)) hx hb dL_law_1713 (by decide) ?_
  refine lv_iadd hx hb dL_law_1714 ?_
  refine zr_nmI hf (fun x109 hf => ?_)
  refine zr_xld hc hn hX hf dL_law_1715 (fun x110 hf => ?_)
  refine lv_aload_n (x := a0) hx hb dL_law_1716 rfl (lv_at hl 1 rfl) ?_
  refine lv_iload hx hb dL_law_1717 (lv_at hl 6 rfl) ?_
  refine lv_iconst (v := (2 : Int32)) hx hb dL_law_1719 (by decide) ?_
  refine lv_iadd hx hb dL_law_1720 ?_
  refine zr_nmI hf (fun x111 hf => ?_)
  refine zr_xld hc hn hX hf dL_law_1721 (fun x112 hf => ?_)
  refine lv_aload_n (x := a0) hx hb dL_law_1722 rfl (lv_at hl 1 rfl) ?_
  refine lv_iload hx hb dL_law_1723 (lv_at hl 6 rfl) ?_
  refine lv_iconst (v := (3 : Int32)) hx hb dL_law_1725 (by decide) ?_
  refine lv_iadd hx hb dL_law_1726 ?_
  refine zr_nmI hf (fun x113 hf => ?_)
  refine zr_xld hc hn hX hf dL_law_1727 (fun x114 hf => ?_)
  refine zr_cVI (As := [.int x110, .int x112, .int x114]) (rest := []) hc hn hq (ci := 3) rfl ⟨rfl, hd_X4_stepKey⟩ (lw_V q2457 q2458 q2459 q91 q2460) (Nat.le_of_ble_eq_true rfl) (Nat.le_of_ble_eq_true rfl) (fun _ _ _ _ q => m_X4_stepKey l D dA b0 gs h108 a2 x110 x112 x114 q) hf dL_law_1728 hl.1 rfl rfl (zroom (Nat.le_of_ble_eq_true rfl)) (fun x115 h116 H locs cells slots C9 S9 hf hq hn => ?_)
  refine lv_istore (lv' := [(7, .int x115), (6, .int x107), (0, .ref a0), (1, .ref a1), (2, .ref a2), (3, .ref a3), (4, .ref a4), (5, .int v5)]) hx hb dL_law_1731 hl (by decide) rfl (fun ls hl => ?_)
  refine lv_aload_n (x := a2) hx hb dL_law_1733 rfl (lv_at hl 4 rfl) ?_
  refine zr_cVI (As := []) (rest := []) hc hn hq (ci := 3) rfl ⟨rfl, hd_X4_thrown⟩ (lw_V q2195 q2196 q2197 q91 q2198) (Nat.le_of_ble_eq_true rfl) (Nat.le_of_ble_eq_true rfl) (fun _ _ _ _ q => m_X4_thrown l D dA b0 gs h116 a2 q) hf dL_law_1734 hl.1 rfl rfl (zroom (Nat.le_of_ble_eq_true rfl)) (fun x117 h118 H locs cells slots C9 S9 hf hq hn => ?_)
  refine lv_iload hx hb dL_law_1737 (lv_at hl 1 rfl) ?_
  refine lv_icmp_eq (tgt := 1744) hx hb dL_law_1739 (by decide) (fun c9 => ?_) (fun c9 => ?_)
  · have hf := zif_t c9 hf
    refine lv_iload hx hb dL_law_1744 (lv_at hl 1 rfl) ?_
    refine lv_if_ne (tgt := 1761) hx hb dL_law_1746 (by decide) (fun c9 => ?_) (fun c9 => ?_)
    · have hf := zif_f c9 hf
      exact m_L_law_b1761 hc hr hin hl0 hZ k28 hk28 h118 a0 a1 a2 a3 a4 v5 _ _ _ _ _ _ hX hf hq hn _ (lv_sub hl [2, 3, 4, 5, 6, 7] rfl)
    · have hf := zif_t c9 hf
      refine lv_aload_n (x := a3) hx hb dL_law_1749 rfl (lv_at hl 5 rfl) ?_
      refine lv_iconst (v := (0 : Int32)) hx hb dL_law_1750 (by decide) ?_
      refine zr_aL hc hn hf dL_law_1751 (fun x119 hf => ?_)
      refine lv_iload hx hb dL_law_1752 (lv_at hl 0 rfl) ?_
      refine lv_i2l (v := x115.toInt64) hx hb dL_law_1754 rfl ?_
      refine zr_nmL hf (fun x120 hf => ?_)
      refine W.lcmp hx hb dL_law_1755 ?_
      refine zr_nmI hf (fun x121 hf => ?_)
      refine lv_if_eq (tgt := 1761) hx hb dL_law_1756 (by decide) (fun c9 => ?_) (fun c9 => ?_)
      · have hf := zif_t c9 hf
        exact m_L_law_b1761 hc hr hin hl0 hZ k28 hk28 h118 a0 a1 a2 a3 a4 v5 _ _ _ _ _ _ hX hf hq hn _ (lv_sub hl [2, 3, 4, 5, 6, 7] rfl)
      · have hf := zif_f c9 hf
        refine lv_iconst (v := (0 : Int32)) hx hb dL_law_1759 (by decide) ?_
        obtain ⟨rfl, rfl, rfl, rfl⟩ := zret_i hf
        obtain ⟨hq1, hq2⟩ := hq
        subst hq1
        subst hq2
        exact hZ _ _ _ _ dL_law_1760 hn
  · have hf := zif_f c9 hf
    refine lv_iconst (v := (0 : Int32)) hx hb dL_law_1742 (by decide) ?_
    obtain ⟨rfl, rfl, rfl, rfl⟩ := zret_i hf
    obtain ⟨hq1, hq2⟩ := hq
    subst hq1
    subst hq2
    exact hZ _ _ _ _ dL_law_1743 hn
set_option maxHeartbeats 4000000 in
set_option maxRecDepth 100000 in
theorem m_L_law_b1841 {p : Program} {l : Launch} {e : Env} {s : State} {m : MethodId} {args : Array Value} {below : List Frame} {meth : Method} {c : Code} {D : va_G} {dA : Nat → ClassId} {b0 : Nat} {gs : Nat → Option Nat} (hc : zC D dA b0 gs x.cls cL_law 9 p c s m args meth) (hr : meth.sig.returnType = ret) (hin : meth.name = x.name) {r : Int32} {hh : PH} {mc ms : Nat} {L : Nat} {xs : Nat → Int32} (hl0 : l.stackTraces = false) {Q : State → Prop} (hZ : ∀ (pc : Nat) (ls : Array Slot) (H : Heap) (locs : List Loc), decode cL_law pc = .ok (.ireturn, 1) → zM D dA b0 gs s hh H locs → W p l e ({ frames := 16, cells := mc, slots := ms, locals := 3214 } : Room) s m args below meth c H locs mc ms Q (F0 m pc ls [.int r])) (k28 : PH → Nat → Nat → Nat → Nat → Nat → Int32 → ZR Int32) (hk28 : ∀ (h : PH) (a0 : Nat) (a1 : Nat) (a2 : Nat) (a3 : Nat) (a4 : Nat) (v5 : Int32) (C9 S9 : Nat) (H : Heap) (locs : List Loc) (cells slots : Nat), va_X a0 L xs s s.heap ∧ a0 < b0 → k28 h a0 a1 a2 a3 a4 v5 = some (r, hh, C9, S9) → cells + C9 = mc ∧ slots + S9 = ms → zM D dA b0 gs s h H locs → ∀ ls : Array Slot, lv_has ls 9 [(0, .ref a0), (1, .ref a1), (2, .ref a2), (3, .ref a3), (4, .ref a4), (5, .int v5)] → W p l e ({ frames := 16, cells := mc, slots := ms, locals := 3214 } : Room) s m args below meth c H locs cells slots Q (F0 m 28 ls [])) : ∀ (h : PH) (a0 : Nat) (a1 : Nat) (a2 : Nat) (a3 : Nat) (a4 : Nat) (v5 : Int32) (C9 S9 : Nat) (H : Heap) (locs : List Loc) (cells slots : Nat), va_X a0 L xs s s.heap ∧ a0 < b0 → f_L_law_b1841 L xs k28 h a0 a1 a2 a3 a4 v5 = some (r, hh, C9, S9) → cells + C9 = mc ∧ slots + S9 = ms → zM D dA b0 gs s h H locs → ∀ ls : Array Slot, lv_has ls 9 [(0, .ref a0), (1, .ref a1), (2, .ref a2), (3, .ref a3), (4, .ref a4), (5, .int v5)] → W p l e ({ frames := 16, cells := mc, slots := ms, locals := 3214 } : Room) s m args below meth c H locs cells slots Q (F0 m 1841 ls []) := by
  have hx := hc.x
  have hb := hc.b
  intro h a0 a1 a2 a3 a4 v5 C9 S9 H locs cells slots hX hf hq hn ls hl
  unfold f_L_law_b1841 at hf
  refine lv_goto (tgt := 3450) hx hb dL_law_1841 (by decide) ?_
  exact m_L_law_b3450 hc hr hin hl0 hZ k28 hk28 h a0 a1 a2 a3 a4 v5 _ _ _ _ _ _ hX hf hq hn _ (lv_sub hl [0, 1, 2, 3, 4, 5] rfl)
set_option maxHeartbeats 4000000 in
set_option maxRecDepth 100000 in
theorem m_L_law_b1764 {p : Program} {l : Launch} {e : Env} {s : State} {m : MethodId} {args : Array Value} {below : List Frame} {meth : Method} {c : Code} {D : va_G} {dA : Nat → ClassId} {b0 : Nat} {gs : Nat → Option Nat} (hc : zC D dA b0 gs x.cls cL_law 9 p c s m args meth) (hr : meth.sig.returnType = ret) (hin : meth.name = x.name) {r : Int32} {hh : PH} {mc ms : Nat} {L : Nat} {xs : Nat → Int32} (hl0 : l.stackTraces = false) {Q : State → Prop} (hZ : ∀ (pc : Nat) (ls : Array Slot) (H : Heap) (locs : List Loc), decode cL_law pc = .ok (.ireturn, 1) → zM D dA b0 gs s hh H locs → W p l e ({ frames := 16, cells := mc, slots := ms, locals := 3214 } : Room) s m args below meth c H locs mc ms Q (F0 m pc ls [.int r])) (k28 : PH → Nat → Nat → Nat → Nat → Nat → Int32 → ZR Int32) (hk28 : ∀ (h : PH) (a0 : Nat) (a1 : Nat) (a2 : Nat) (a3 : Nat) (a4 : Nat) (v5 : Int32) (C9 S9 : Nat) (H : Heap) (locs : List Loc) (cells slots : Nat), va_X a0 L xs s s.heap ∧ a0 < b0 → k28 h a0 a1 a2 a3 a4 v5 = some (r, hh, C9, S9) → cells + C9 = mc ∧ slots + S9 = ms → zM D dA b0 gs s h H locs → ∀ ls : Array Slot, lv_has ls 9 [(0, .ref a0), (1, .ref a1), (2, .ref a2), (3, .ref a3), (4, .ref a4), (5, .int v5)] → W p l e ({ frames := 16, cells := mc, slots := ms, locals := 3214 } : Room) s m args below meth c H locs cells slots Q (F0 m 28 ls [])) : ∀ (h : PH) (a0 : Nat) (a1 : Nat) (a2 : Nat) (a3 : Nat) (a4 : Nat) (v5 : Int32) (C9 S9 : Nat) (H : Heap) (locs : List Loc) (cells slots : Nat), va_X a0 L xs s s.heap ∧ a0 < b0 → f_L_law_b1764 L xs k28 h a0 a1 a2 a3 a4 v5 = some (r, hh, C9, S9) → cells + C9 = mc ∧ slots + S9 = ms → zM D dA b0 gs s h H locs → ∀ ls : Array Slot, lv_has ls 9 [(0, .ref a0), (1, .ref a1), (2, .ref a2), (3, .ref a3), (4, .ref a4), (5, .int v5)] → W p l e ({ frames := 16, cells := mc, slots := ms, locals := 3214 } : Room) s m args below meth c H locs cells slots Q (F0 m 1764 ls []) := by
  have hx := hc.x
  have hb := hc.b
  intro h a0 a1 a2 a3 a4 v5 C9 S9 H locs cells slots hX hf hq hn ls hl
  unfold f_L_law_b1764 at hf
  refine lv_aload_n (x := a1) hx hb dL_law_1764 rfl (lv_at hl 1 rfl) ?_
  refine lv_aload_n (x := a0) hx hb dL_law_1765 rfl (lv_at hl 0 rfl) ?_
  refine lv_iload hx hb dL_law_1766 (lv_at hl 5 rfl) ?_
  refine lv_iconst (v := (1 : Int32)) hx hb dL_law_1768 (by decide) ?_
  refine lv_iadd hx hb dL_law_1769 ?_
  refine zr_nmI hf (fun x101 hf => ?_)
  refine zr_xld hc hn hX hf dL_law_1770 (fun x102 hf => ?_)
  refine lv_aload_n (x := a0) hx hb dL_law_1771 rfl (lv_at hl 0 rfl) ?_
  refine lv_iload hx hb dL_law_1772 (lv_at hl 5 rfl) ?_
  refine lv_iconst (v := (2 : Int32)) hx hb dL_law_1774 (by decide) ?_
  refine lv_iadd hx hb dL_law_1775 ?_
  refine zr_nmI hf (fun x103 hf => ?_)
  refine zr_xld hc hn hX hf dL_law_1776 (fun x104 hf => ?_)
  refine lv_aload_n (x := a0) hx hb dL_law_1777 rfl (lv_at hl 0 rfl) ?_
  refine lv_iload hx hb dL_law_1778 (lv_at hl 5 rfl) ?_
  refine lv_iconst (v := (3 : Int32)) hx hb dL_law_1780 (by decide) ?_
  refine lv_iadd hx hb dL_law_1781 ?_
  refine zr_nmI hf (fun x105 hf => ?_)
  refine zr_xld hc hn hX hf dL_law_1782 (fun x106 hf => ?_)
  refine lv_aload_n (x := a3) hx hb dL_law_1783 rfl (lv_at hl 3 rfl) ?_
  refine zr_cSWI (As := [.ref a1, .int x102, .int x104, .int x106, .ref a3]) (rest := []) hc hn hq hd_X0_stepLevel (lw_SW q1404 q1405 q83 q1406) (Nat.le_of_ble_eq_true rfl) (Nat.le_of_ble_eq_true rfl) (fun _ _ _ _ q => m_X0_stepLevel l hl0 D dA b0 gs h a1 x102 x104 x106 a3 q) hf dL_law_1784 hl.1 rfl rfl (zroom (Nat.le_of_ble_eq_true rfl)) (fun x107 h108 H locs cells slots C9 S9 hf hq hn => ?_)
  refine lv_istore (lv' := [(6, .int x107), (0, .ref a0), (1, .ref a1), (2, .ref a2), (3, .ref a3), (4, .ref a4), (5, .int v5)]) hx hb dL_law_1787 hl (by decide) rfl (fun ls hl => ?_)
  refine lv_aload_n (x := a2) hx hb dL_law_1789 rfl (lv_at hl 3 rfl) ?_
  refine lv_aload_n (x := a0) hx hb dL_law_1790 rfl (lv_at hl 1 rfl) ?_
  refine lv_iload hx hb dL_law_1791 (lv_at hl 6 rfl) ?_
  refine lv_iconst (v := (1 : Int32)) hx hb dL_law_1793 (by decide) ?_
  refine lv_iadd hx hb dL_law_1794 ?_
  refine zr_nmI hf (fun x109 hf => ?_)
  refine zr_xld hc hn hX hf dL_law_1795 (fun x110 hf => ?_)
  refine lv_aload_n (x := a0) hx hb dL_law_1796 rfl (lv_at hl 1 rfl) ?_
  refine lv_iload hx hb dL_law_1797 (lv_at hl 6 rfl) ?_
  refine lv_iconst (v := (2 : Int32)) hx hb dL_law_1799 (by decide) ?_
  refine lv_iadd hx hb dL_law_1800 ?_
  refine zr_nmI hf (fun x111 hf => ?_)
  refine zr_xld hc hn hX hf dL_law_1801 (fun x112 hf => ?_)
  refine lv_aload_n (x := a0) hx hb dL_law_1802 rfl (lv_at hl 1 rfl) ?_
  refine lv_iload hx hb dL_law_1803 (lv_at hl 6 rfl) ?_
  refine lv_iconst (v := (3 : Int32)) hx hb dL_law_1805 (by decide) ?_
  refine lv_iadd hx hb dL_law_1806 ?_
  refine zr_nmI hf (fun x113 hf => ?_)
  refine zr_xld hc hn hX hf dL_law_1807 (fun x114 hf => ?_)
  refine zr_cVI (As := [.int x110, .int x112, .int x114]) (rest := []) hc hn hq (ci := 3) rfl ⟨rfl, hd_X4_stepLevel⟩ (lw_V q2465 q2466 q2467 q91 q2468) (Nat.le_of_ble_eq_true rfl) (Nat.le_of_ble_eq_true rfl) (fun _ _ _ _ q => m_X4_stepLevel l D dA b0 gs h108 a2 x110 x112 x114 q) hf dL_law_1808 hl.1 rfl rfl (zroom (Nat.le_of_ble_eq_true rfl)) (fun x115 h116 H locs cells slots C9 S9 hf hq hn => ?_)
  refine lv_istore (lv' := [(7, .int x115), (6, .int x107), (0, .ref a0), (1, .ref a1), (2, .ref a2), (3, .ref a3), (4, .ref a4), (5, .int v5)]) hx hb dL_law_1811 hl (by decide) rfl (fun ls hl => ?_)
  refine lv_aload_n (x := a2) hx hb dL_law_1813 rfl (lv_at hl 4 rfl) ?_
  refine zr_cVI (As := []) (rest := []) hc hn hq (ci := 3) rfl ⟨rfl, hd_X4_thrown⟩ (lw_V q2195 q2196 q2197 q91 q2198) (Nat.le_of_ble_eq_true rfl) (Nat.le_of_ble_eq_true rfl) (fun _ _ _ _ q => m_X4_thrown l D dA b0 gs h116 a2 q) hf dL_law_1814 hl.1 rfl rfl (zroom (Nat.le_of_ble_eq_true rfl)) (fun x117 h118 H locs cells slots C9 S9 hf hq hn => ?_)
  refine lv_iload hx hb dL_law_1817 (lv_at hl 1 rfl) ?_
  refine lv_icmp_eq (tgt := 1824) hx hb dL_law_1819 (by decide) (fun c9 => ?_) (fun c9 => ?_)
  · have hf := zif_t c9 hf
    refine lv_iload hx hb dL_law_1824 (lv_at hl 1 rfl) ?_
    refine lv_if_ne (tgt := 1841) hx hb dL_law_1826 (by decide) (fun c9 => ?_) (fun c9 => ?_)
    · have hf := zif_f c9 hf
      exact m_L_law_b1841 hc hr hin hl0 hZ k28 hk28 h118 a0 a1 a2 a3 a4 v5 _ _ _ _ _ _ hX hf hq hn _ (lv_sub hl [2, 3, 4, 5, 6, 7] rfl)
    · have hf := zif_t c9 hf
      refine lv_aload_n (x := a3) hx hb dL_law_1829 rfl (lv_at hl 5 rfl) ?_
      refine lv_iconst (v := (0 : Int32)) hx hb dL_law_1830 (by decide) ?_
      refine zr_aL hc hn hf dL_law_1831 (fun x119 hf => ?_)
      refine lv_iload hx hb dL_law_1832 (lv_at hl 0 rfl) ?_
      refine lv_i2l (v := x115.toInt64) hx hb dL_law_1834 rfl ?_
      refine zr_nmL hf (fun x120 hf => ?_)
      refine W.lcmp hx hb dL_law_1835 ?_
      refine zr_nmI hf (fun x121 hf => ?_)
      refine lv_if_eq (tgt := 1841) hx hb dL_law_1836 (by decide) (fun c9 => ?_) (fun c9 => ?_)
      · have hf := zif_t c9 hf
        exact m_L_law_b1841 hc hr hin hl0 hZ k28 hk28 h118 a0 a1 a2 a3 a4 v5 _ _ _ _ _ _ hX hf hq hn _ (lv_sub hl [2, 3, 4, 5, 6, 7] rfl)
      · have hf := zif_f c9 hf
        refine lv_iconst (v := (0 : Int32)) hx hb dL_law_1839 (by decide) ?_
        obtain ⟨rfl, rfl, rfl, rfl⟩ := zret_i hf
        obtain ⟨hq1, hq2⟩ := hq
        subst hq1
        subst hq2
        exact hZ _ _ _ _ dL_law_1840 hn
  · have hf := zif_f c9 hf
    refine lv_iconst (v := (0 : Int32)) hx hb dL_law_1822 (by decide) ?_
    obtain ⟨rfl, rfl, rfl, rfl⟩ := zret_i hf
    obtain ⟨hq1, hq2⟩ := hq
    subst hq1
    subst hq2
    exact hZ _ _ _ _ dL_law_1823 hn
set_option maxHeartbeats 4000000 in
set_option maxRecDepth 100000 in
theorem m_L_law_b1909 {p : Program} {l : Launch} {e : Env} {s : State} {m : MethodId} {args : Array Value} {below : List Frame} {meth : Method} {c : Code} {D : va_G} {dA : Nat → ClassId} {b0 : Nat} {gs : Nat → Option Nat} (hc : zC D dA b0 gs x.cls cL_law 9 p c s m args meth) (hr : meth.sig.returnType = ret) (hin : meth.name = x.name) {r : Int32} {hh : PH} {mc ms : Nat} {L : Nat} {xs : Nat → Int32} (hl0 : l.stackTraces = false) {Q : State → Prop} (hZ : ∀ (pc : Nat) (ls : Array Slot) (H : Heap) (locs : List Loc), decode cL_law pc = .ok (.ireturn, 1) → zM D dA b0 gs s hh H locs → W p l e ({ frames := 16, cells := mc, slots := ms, locals := 3214 } : Room) s m args below meth c H locs mc ms Q (F0 m pc ls [.int r])) (k28 : PH → Nat → Nat → Nat → Nat → Nat → Int32 → ZR Int32) (hk28 : ∀ (h : PH) (a0 : Nat) (a1 : Nat) (a2 : Nat) (a3 : Nat) (a4 : Nat) (v5 : Int32) (C9 S9 : Nat) (H : Heap) (locs : List Loc) (cells slots : Nat), va_X a0 L xs s s.heap ∧ a0 < b0 → k28 h a0 a1 a2 a3 a4 v5 = some (r, hh, C9, S9) → cells + C9 = mc ∧ slots + S9 = ms → zM D dA b0 gs s h H locs → ∀ ls : Array Slot, lv_has ls 9 [(0, .ref a0), (1, .ref a1), (2, .ref a2), (3, .ref a3), (4, .ref a4), (5, .int v5)] → W p l e ({ frames := 16, cells := mc, slots := ms, locals := 3214 } : Room) s m args below meth c H locs cells slots Q (F0 m 28 ls [])) : ∀ (h : PH) (a0 : Nat) (a1 : Nat) (a2 : Nat) (a3 : Nat) (a4 : Nat) (v5 : Int32) (C9 S9 : Nat) (H : Heap) (locs : List Loc) (cells slots : Nat), va_X a0 L xs s s.heap ∧ a0 < b0 → f_L_law_b1909 L xs k28 h a0 a1 a2 a3 a4 v5 = some (r, hh, C9, S9) → cells + C9 = mc ∧ slots + S9 = ms → zM D dA b0 gs s h H locs → ∀ ls : Array Slot, lv_has ls 9 [(0, .ref a0), (1, .ref a1), (2, .ref a2), (3, .ref a3), (4, .ref a4), (5, .int v5)] → W p l e ({ frames := 16, cells := mc, slots := ms, locals := 3214 } : Room) s m args below meth c H locs cells slots Q (F0 m 1909 ls []) := by
  have hx := hc.x
  have hb := hc.b
  intro h a0 a1 a2 a3 a4 v5 C9 S9 H locs cells slots hX hf hq hn ls hl
  unfold f_L_law_b1909 at hf
  refine lv_goto (tgt := 3450) hx hb dL_law_1909 (by decide) ?_
  exact m_L_law_b3450 hc hr hin hl0 hZ k28 hk28 h a0 a1 a2 a3 a4 v5 _ _ _ _ _ _ hX hf hq hn _ (lv_sub hl [0, 1, 2, 3, 4, 5] rfl)
set_option maxHeartbeats 4000000 in
set_option maxRecDepth 100000 in
theorem m_L_law_b1844 {p : Program} {l : Launch} {e : Env} {s : State} {m : MethodId} {args : Array Value} {below : List Frame} {meth : Method} {c : Code} {D : va_G} {dA : Nat → ClassId} {b0 : Nat} {gs : Nat → Option Nat} (hc : zC D dA b0 gs x.cls cL_law 9 p c s m args meth) (hr : meth.sig.returnType = ret) (hin : meth.name = x.name) {r : Int32} {hh : PH} {mc ms : Nat} {L : Nat} {xs : Nat → Int32} (hl0 : l.stackTraces = false) {Q : State → Prop} (hZ : ∀ (pc : Nat) (ls : Array Slot) (H : Heap) (locs : List Loc), decode cL_law pc = .ok (.ireturn, 1) → zM D dA b0 gs s hh H locs → W p l e ({ frames := 16, cells := mc, slots := ms, locals := 3214 } : Room) s m args below meth c H locs mc ms Q (F0 m pc ls [.int r])) (k28 : PH → Nat → Nat → Nat → Nat → Nat → Int32 → ZR Int32) (hk28 : ∀ (h : PH) (a0 : Nat) (a1 : Nat) (a2 : Nat) (a3 : Nat) (a4 : Nat) (v5 : Int32) (C9 S9 : Nat) (H : Heap) (locs : List Loc) (cells slots : Nat), va_X a0 L xs s s.heap ∧ a0 < b0 → k28 h a0 a1 a2 a3 a4 v5 = some (r, hh, C9, S9) → cells + C9 = mc ∧ slots + S9 = ms → zM D dA b0 gs s h H locs → ∀ ls : Array Slot, lv_has ls 9 [(0, .ref a0), (1, .ref a1), (2, .ref a2), (3, .ref a3), (4, .ref a4), (5, .int v5)] → W p l e ({ frames := 16, cells := mc, slots := ms, locals := 3214 } : Room) s m args below meth c H locs cells slots Q (F0 m 28 ls [])) : ∀ (h : PH) (a0 : Nat) (a1 : Nat) (a2 : Nat) (a3 : Nat) (a4 : Nat) (v5 : Int32) (C9 S9 : Nat) (H : Heap) (locs : List Loc) (cells slots : Nat), va_X a0 L xs s s.heap ∧ a0 < b0 → f_L_law_b1844 L xs k28 h a0 a1 a2 a3 a4 v5 = some (r, hh, C9, S9) → cells + C9 = mc ∧ slots + S9 = ms → zM D dA b0 gs s h H locs → ∀ ls : Array Slot, lv_has ls 9 [(0, .ref a0), (1, .ref a1), (2, .ref a2), (3, .ref a3), (4, .ref a4), (5, .int v5)] → W p l e ({ frames := 16, cells := mc, slots := ms, locals := 3214 } : Room) s m args below meth c H locs cells slots Q (F0 m 1844 ls []) := by
  have hx := hc.x
  have hb := hc.b
  intro h a0 a1 a2 a3 a4 v5 C9 S9 H locs cells slots hX hf hq hn ls hl
  unfold f_L_law_b1844 at hf
  refine lv_aload_n (x := a1) hx hb dL_law_1844 rfl (lv_at hl 1 rfl) ?_
  refine lv_aload_n (x := a0) hx hb dL_law_1845 rfl (lv_at hl 0 rfl) ?_
  refine lv_iload hx hb dL_law_1846 (lv_at hl 5 rfl) ?_
  refine lv_iconst (v := (1 : Int32)) hx hb dL_law_1848 (by decide) ?_
  refine lv_iadd hx hb dL_law_1849 ?_
  refine zr_nmI hf (fun x101 hf => ?_)
  refine zr_xld hc hn hX hf dL_law_1850 (fun x102 hf => ?_)
  refine lv_aload_n (x := a0) hx hb dL_law_1851 rfl (lv_at hl 0 rfl) ?_
  refine lv_iload hx hb dL_law_1852 (lv_at hl 5 rfl) ?_
  refine lv_iconst (v := (2 : Int32)) hx hb dL_law_1854 (by decide) ?_
  refine lv_iadd hx hb dL_law_1855 ?_
  refine zr_nmI hf (fun x103 hf => ?_)
  refine zr_xld hc hn hX hf dL_law_1856 (fun x104 hf => ?_)
  refine lv_aload_n (x := a3) hx hb dL_law_1857 rfl (lv_at hl 3 rfl) ?_
  refine zr_cSWI (As := [.ref a1, .int x102, .int x104, .ref a3]) (rest := []) hc hn hq hd_X0_stepsTo (lw_SW q1411 q1412 q83 q1413) (Nat.le_of_ble_eq_true rfl) (Nat.le_of_ble_eq_true rfl) (fun _ _ _ _ q => m_X0_stepsTo l hl0 D dA b0 gs h a1 x102 x104 a3 q) hf dL_law_1858 hl.1 rfl rfl (zroom (Nat.le_of_ble_eq_true rfl)) (fun x105 h106 H locs cells slots C9 S9 hf hq hn => ?_)
  refine lv_istore (lv' := [(6, .int x105), (0, .ref a0), (1, .ref a1), (2, .ref a2), (3, .ref a3), (4, .ref a4), (5, .int v5)]) hx hb dL_law_1861 hl (by decide) rfl (fun ls hl => ?_)
  refine lv_aload_n (x := a2) hx hb dL_law_1863 rfl (lv_at hl 3 rfl) ?_
  refine lv_aload_n (x := a0) hx hb dL_law_1864 rfl (lv_at hl 1 rfl) ?_
  refine lv_iload hx hb dL_law_1865 (lv_at hl 6 rfl) ?_
  refine lv_iconst (v := (1 : Int32)) hx hb dL_law_1867 (by decide) ?_
  refine lv_iadd hx hb dL_law_1868 ?_
  refine zr_nmI hf (fun x107 hf => ?_)
  refine zr_xld hc hn hX hf dL_law_1869 (fun x108 hf => ?_)
  refine lv_aload_n (x := a0) hx hb dL_law_1870 rfl (lv_at hl 1 rfl) ?_
  refine lv_iload hx hb dL_law_1871 (lv_at hl 6 rfl) ?_
  refine lv_iconst (v := (2 : Int32)) hx hb dL_law_1873 (by decide) ?_
  refine lv_iadd hx hb dL_law_1874 ?_
  refine zr_nmI hf (fun x109 hf => ?_)
  refine zr_xld hc hn hX hf dL_law_1875 (fun x110 hf => ?_)
  refine zr_cVI (As := [.int x108, .int x110]) (rest := []) hc hn hq (ci := 3) rfl ⟨rfl, hd_X4_stepsTo⟩ (lw_V q2469 q2470 q2471 q91 q2472) (Nat.le_of_ble_eq_true rfl) (Nat.le_of_ble_eq_true rfl) (fun _ _ _ _ q => m_X4_stepsTo l D dA b0 gs h106 a2 x108 x110 q) hf dL_law_1876 hl.1 rfl rfl (zroom (Nat.le_of_ble_eq_true rfl)) (fun x111 h112 H locs cells slots C9 S9 hf hq hn => ?_)
  refine lv_istore (lv' := [(7, .int x111), (6, .int x105), (0, .ref a0), (1, .ref a1), (2, .ref a2), (3, .ref a3), (4, .ref a4), (5, .int v5)]) hx hb dL_law_1879 hl (by decide) rfl (fun ls hl => ?_)
  refine lv_aload_n (x := a2) hx hb dL_law_1881 rfl (lv_at hl 4 rfl) ?_
  refine zr_cVI (As := []) (rest := []) hc hn hq (ci := 3) rfl ⟨rfl, hd_X4_thrown⟩ (lw_V q2195 q2196 q2197 q91 q2198) (Nat.le_of_ble_eq_true rfl) (Nat.le_of_ble_eq_true rfl) (fun _ _ _ _ q => m_X4_thrown l D dA b0 gs h112 a2 q) hf dL_law_1882 hl.1 rfl rfl (zroom (Nat.le_of_ble_eq_true rfl)) (fun x113 h114 H locs cells slots C9 S9 hf hq hn => ?_)
  refine lv_iload hx hb dL_law_1885 (lv_at hl 1 rfl) ?_
  refine lv_icmp_eq (tgt := 1892) hx hb dL_law_1887 (by decide) (fun c9 => ?_) (fun c9 => ?_)
  · have hf := zif_t c9 hf
    refine lv_iload hx hb dL_law_1892 (lv_at hl 1 rfl) ?_
    refine lv_if_ne (tgt := 1909) hx hb dL_law_1894 (by decide) (fun c9 => ?_) (fun c9 => ?_)
    · have hf := zif_f c9 hf
      exact m_L_law_b1909 hc hr hin hl0 hZ k28 hk28 h114 a0 a1 a2 a3 a4 v5 _ _ _ _ _ _ hX hf hq hn _ (lv_sub hl [2, 3, 4, 5, 6, 7] rfl)
    · have hf := zif_t c9 hf
      refine lv_aload_n (x := a3) hx hb dL_law_1897 rfl (lv_at hl 5 rfl) ?_
      refine lv_iconst (v := (0 : Int32)) hx hb dL_law_1898 (by decide) ?_
      refine zr_aL hc hn hf dL_law_1899 (fun x115 hf => ?_)
      refine lv_iload hx hb dL_law_1900 (lv_at hl 0 rfl) ?_
      refine lv_i2l (v := x111.toInt64) hx hb dL_law_1902 rfl ?_
      refine zr_nmL hf (fun x116 hf => ?_)
      refine W.lcmp hx hb dL_law_1903 ?_
      refine zr_nmI hf (fun x117 hf => ?_)
      refine lv_if_eq (tgt := 1909) hx hb dL_law_1904 (by decide) (fun c9 => ?_) (fun c9 => ?_)
      · have hf := zif_t c9 hf
        exact m_L_law_b1909 hc hr hin hl0 hZ k28 hk28 h114 a0 a1 a2 a3 a4 v5 _ _ _ _ _ _ hX hf hq hn _ (lv_sub hl [2, 3, 4, 5, 6, 7] rfl)
      · have hf := zif_f c9 hf
        refine lv_iconst (v := (0 : Int32)) hx hb dL_law_1907 (by decide) ?_
        obtain ⟨rfl, rfl, rfl, rfl⟩ := zret_i hf
        obtain ⟨hq1, hq2⟩ := hq
        subst hq1
        subst hq2
        exact hZ _ _ _ _ dL_law_1908 hn
  · have hf := zif_f c9 hf
    refine lv_iconst (v := (0 : Int32)) hx hb dL_law_1890 (by decide) ?_
    obtain ⟨rfl, rfl, rfl, rfl⟩ := zret_i hf
    obtain ⟨hq1, hq2⟩ := hq
    subst hq1
    subst hq2
    exact hZ _ _ _ _ dL_law_1891 hn
set_option maxHeartbeats 4000000 in
set_option maxRecDepth 100000 in
theorem m_L_law_b1965 {p : Program} {l : Launch} {e : Env} {s : State} {m : MethodId} {args : Array Value} {below : List Frame} {meth : Method} {c : Code} {D : va_G} {dA : Nat → ClassId} {b0 : Nat} {gs : Nat → Option Nat} (hc : zC D dA b0 gs x.cls cL_law 9 p c s m args meth) (hr : meth.sig.returnType = ret) (hin : meth.name = x.name) {r : Int32} {hh : PH} {mc ms : Nat} {L : Nat} {xs : Nat → Int32} (hl0 : l.stackTraces = false) {Q : State → Prop} (hZ : ∀ (pc : Nat) (ls : Array Slot) (H : Heap) (locs : List Loc), decode cL_law pc = .ok (.ireturn, 1) → zM D dA b0 gs s hh H locs → W p l e ({ frames := 16, cells := mc, slots := ms, locals := 3214 } : Room) s m args below meth c H locs mc ms Q (F0 m pc ls [.int r])) (k28 : PH → Nat → Nat → Nat → Nat → Nat → Int32 → ZR Int32) (hk28 : ∀ (h : PH) (a0 : Nat) (a1 : Nat) (a2 : Nat) (a3 : Nat) (a4 : Nat) (v5 : Int32) (C9 S9 : Nat) (H : Heap) (locs : List Loc) (cells slots : Nat), va_X a0 L xs s s.heap ∧ a0 < b0 → k28 h a0 a1 a2 a3 a4 v5 = some (r, hh, C9, S9) → cells + C9 = mc ∧ slots + S9 = ms → zM D dA b0 gs s h H locs → ∀ ls : Array Slot, lv_has ls 9 [(0, .ref a0), (1, .ref a1), (2, .ref a2), (3, .ref a3), (4, .ref a4), (5, .int v5)] → W p l e ({ frames := 16, cells := mc, slots := ms, locals := 3214 } : Room) s m args below meth c H locs cells slots Q (F0 m 28 ls [])) : ∀ (h : PH) (a0 : Nat) (a1 : Nat) (a2 : Nat) (a3 : Nat) (a4 : Nat) (v5 : Int32) (C9 S9 : Nat) (H : Heap) (locs : List Loc) (cells slots : Nat), va_X a0 L xs s s.heap ∧ a0 < b0 → f_L_law_b1965 L xs k28 h a0 a1 a2 a3 a4 v5 = some (r, hh, C9, S9) → cells + C9 = mc ∧ slots + S9 = ms → zM D dA b0 gs s h H locs → ∀ ls : Array Slot, lv_has ls 9 [(0, .ref a0), (1, .ref a1), (2, .ref a2), (3, .ref a3), (4, .ref a4), (5, .int v5)] → W p l e ({ frames := 16, cells := mc, slots := ms, locals := 3214 } : Room) s m args below meth c H locs cells slots Q (F0 m 1965 ls []) := by
  have hx := hc.x
  have hb := hc.b
  intro h a0 a1 a2 a3 a4 v5 C9 S9 H locs cells slots hX hf hq hn ls hl
  unfold f_L_law_b1965 at hf
  refine lv_goto (tgt := 3450) hx hb dL_law_1965 (by decide) ?_
  exact m_L_law_b3450 hc hr hin hl0 hZ k28 hk28 h a0 a1 a2 a3 a4 v5 _ _ _ _ _ _ hX hf hq hn _ (lv_sub hl [0, 1, 2, 3, 4, 5] rfl)
set_option maxHeartbeats 4000000 in
set_option maxRecDepth 100000 in
theorem m_L_law_b1912 {p : Program} {l : Launch} {e : Env} {s : State} {m : MethodId} {args : Array Value} {below : List Frame} {meth : Method} {c : Code} {D : va_G} {dA : Nat → ClassId} {b0 : Nat} {gs : Nat → Option Nat} (hc : zC D dA b0 gs x.cls cL_law 9 p c s m args meth) (hr : meth.sig.returnType = ret) (hin : meth.name = x.name) {r : Int32} {hh : PH} {mc ms : Nat} {L : Nat} {xs : Nat → Int32} (hl0 : l.stackTraces = false) {Q : State → Prop} (hZ : ∀ (pc : Nat) (ls : Array Slot) (H : Heap) (locs : List Loc), decode cL_law pc = .ok (.ireturn, 1) → zM D dA b0 gs s hh H locs → W p l e ({ frames := 16, cells := mc, slots := ms, locals := 3214 } : Room) s m args below meth c H locs mc ms Q (F0 m pc ls [.int r])) (k28 : PH → Nat → Nat → Nat → Nat → Nat → Int32 → ZR Int32) (hk28 : ∀ (h : PH) (a0 : Nat) (a1 : Nat) (a2 : Nat) (a3 : Nat) (a4 : Nat) (v5 : Int32) (C9 S9 : Nat) (H : Heap) (locs : List Loc) (cells slots : Nat), va_X a0 L xs s s.heap ∧ a0 < b0 → k28 h a0 a1 a2 a3 a4 v5 = some (r, hh, C9, S9) → cells + C9 = mc ∧ slots + S9 = ms → zM D dA b0 gs s h H locs → ∀ ls : Array Slot, lv_has ls 9 [(0, .ref a0), (1, .ref a1), (2, .ref a2), (3, .ref a3), (4, .ref a4), (5, .int v5)] → W p l e ({ frames := 16, cells := mc, slots := ms, locals := 3214 } : Room) s m args below meth c H locs cells slots Q (F0 m 28 ls [])) : ∀ (h : PH) (a0 : Nat) (a1 : Nat) (a2 : Nat) (a3 : Nat) (a4 : Nat) (v5 : Int32) (C9 S9 : Nat) (H : Heap) (locs : List Loc) (cells slots : Nat), va_X a0 L xs s s.heap ∧ a0 < b0 → f_L_law_b1912 L xs k28 h a0 a1 a2 a3 a4 v5 = some (r, hh, C9, S9) → cells + C9 = mc ∧ slots + S9 = ms → zM D dA b0 gs s h H locs → ∀ ls : Array Slot, lv_has ls 9 [(0, .ref a0), (1, .ref a1), (2, .ref a2), (3, .ref a3), (4, .ref a4), (5, .int v5)] → W p l e ({ frames := 16, cells := mc, slots := ms, locals := 3214 } : Room) s m args below meth c H locs cells slots Q (F0 m 1912 ls []) := by
  have hx := hc.x
  have hb := hc.b
  intro h a0 a1 a2 a3 a4 v5 C9 S9 H locs cells slots hX hf hq hn ls hl
  unfold f_L_law_b1912 at hf
  refine lv_aload_n (x := a1) hx hb dL_law_1912 rfl (lv_at hl 1 rfl) ?_
  refine lv_aload_n (x := a0) hx hb dL_law_1913 rfl (lv_at hl 0 rfl) ?_
  refine lv_iload hx hb dL_law_1914 (lv_at hl 5 rfl) ?_
  refine lv_iconst (v := (1 : Int32)) hx hb dL_law_1916 (by decide) ?_
  refine lv_iadd hx hb dL_law_1917 ?_
  refine zr_nmI hf (fun x101 hf => ?_)
  refine zr_xld hc hn hX hf dL_law_1918 (fun x102 hf => ?_)
  refine lv_aload_n (x := a3) hx hb dL_law_1919 rfl (lv_at hl 3 rfl) ?_
  refine zr_cSWI (As := [.ref a1, .int x102, .ref a3]) (rest := []) hc hn hq hd_X0_farthest (lw_SW q1418 q1419 q83 q1420) (Nat.le_of_ble_eq_true rfl) (Nat.le_of_ble_eq_true rfl) (fun _ _ _ _ q => m_X0_farthest l hl0 D dA b0 gs h a1 x102 a3 q) hf dL_law_1920 hl.1 rfl rfl (zroom (Nat.le_of_ble_eq_true rfl)) (fun x103 h104 H locs cells slots C9 S9 hf hq hn => ?_)
  refine lv_istore (lv' := [(6, .int x103), (0, .ref a0), (1, .ref a1), (2, .ref a2), (3, .ref a3), (4, .ref a4), (5, .int v5)]) hx hb dL_law_1923 hl (by decide) rfl (fun ls hl => ?_)
  refine lv_aload_n (x := a2) hx hb dL_law_1925 rfl (lv_at hl 3 rfl) ?_
  refine lv_aload_n (x := a0) hx hb dL_law_1926 rfl (lv_at hl 1 rfl) ?_
  refine lv_iload hx hb dL_law_1927 (lv_at hl 6 rfl) ?_
  refine lv_iconst (v := (1 : Int32)) hx hb dL_law_1929 (by decide) ?_
  refine lv_iadd hx hb dL_law_1930 ?_
  refine zr_nmI hf (fun x105 hf => ?_)
  refine zr_xld hc hn hX hf dL_law_1931 (fun x106 hf => ?_)
  refine zr_cVI (As := [.int x106]) (rest := []) hc hn hq (ci := 3) rfl ⟨rfl, hd_X4_farthest⟩ (lw_V q2473 q2474 q2475 q91 q2476) (Nat.le_of_ble_eq_true rfl) (Nat.le_of_ble_eq_true rfl) (fun _ _ _ _ q => m_X4_farthest l D dA b0 gs h104 a2 x106 q) hf dL_law_1932 hl.1 rfl rfl (zroom (Nat.le_of_ble_eq_true rfl)) (fun x107 h108 H locs cells slots C9 S9 hf hq hn => ?_)
  refine lv_istore (lv' := [(7, .int x107), (6, .int x103), (0, .ref a0), (1, .ref a1), (2, .ref a2), (3, .ref a3), (4, .ref a4), (5, .int v5)]) hx hb dL_law_1935 hl (by decide) rfl (fun ls hl => ?_)
  refine lv_aload_n (x := a2) hx hb dL_law_1937 rfl (lv_at hl 4 rfl) ?_
  refine zr_cVI (As := []) (rest := []) hc hn hq (ci := 3) rfl ⟨rfl, hd_X4_thrown⟩ (lw_V q2195 q2196 q2197 q91 q2198) (Nat.le_of_ble_eq_true rfl) (Nat.le_of_ble_eq_true rfl) (fun _ _ _ _ q => m_X4_thrown l D dA b0 gs h108 a2 q) hf dL_law_1938 hl.1 rfl rfl (zroom (Nat.le_of_ble_eq_true rfl)) (fun x109 h110 H locs cells slots C9 S9 hf hq hn => ?_)
  refine lv_iload hx hb dL_law_1941 (lv_at hl 1 rfl) ?_
  refine lv_icmp_eq (tgt := 1948) hx hb dL_law_1943 (by decide) (fun c9 => ?_) (fun c9 => ?_)
  · have hf := zif_t c9 hf
    refine lv_iload hx hb dL_law_1948 (lv_at hl 1 rfl) ?_
    refine lv_if_ne (tgt := 1965) hx hb dL_law_1950 (by decide) (fun c9 => ?_) (fun c9 => ?_)
    · have hf := zif_f c9 hf
      exact m_L_law_b1965 hc hr hin hl0 hZ k28 hk28 h110 a0 a1 a2 a3 a4 v5 _ _ _ _ _ _ hX hf hq hn _ (lv_sub hl [2, 3, 4, 5, 6, 7] rfl)
    · have hf := zif_t c9 hf
      refine lv_aload_n (x := a3) hx hb dL_law_1953 rfl (lv_at hl 5 rfl) ?_
      refine lv_iconst (v := (0 : Int32)) hx hb dL_law_1954 (by decide) ?_
      refine zr_aL hc hn hf dL_law_1955 (fun x111 hf => ?_)
      refine lv_iload hx hb dL_law_1956 (lv_at hl 0 rfl) ?_
      refine lv_i2l (v := x107.toInt64) hx hb dL_law_1958 rfl ?_
      refine zr_nmL hf (fun x112 hf => ?_)
      refine W.lcmp hx hb dL_law_1959 ?_
      refine zr_nmI hf (fun x113 hf => ?_)
      refine lv_if_eq (tgt := 1965) hx hb dL_law_1960 (by decide) (fun c9 => ?_) (fun c9 => ?_)
      · have hf := zif_t c9 hf
        exact m_L_law_b1965 hc hr hin hl0 hZ k28 hk28 h110 a0 a1 a2 a3 a4 v5 _ _ _ _ _ _ hX hf hq hn _ (lv_sub hl [2, 3, 4, 5, 6, 7] rfl)
      · have hf := zif_f c9 hf
        refine lv_iconst (v := (0 : Int32)) hx hb dL_law_1963 (by decide) ?_
        obtain ⟨rfl, rfl, rfl, rfl⟩ := zret_i hf
        obtain ⟨hq1, hq2⟩ := hq
        subst hq1
        subst hq2
        exact hZ _ _ _ _ dL_law_1964 hn
  · have hf := zif_f c9 hf
    refine lv_iconst (v := (0 : Int32)) hx hb dL_law_1946 (by decide) ?_
    obtain ⟨rfl, rfl, rfl, rfl⟩ := zret_i hf
    obtain ⟨hq1, hq2⟩ := hq
    subst hq1
    subst hq2
    exact hZ _ _ _ _ dL_law_1947 hn
set_option maxHeartbeats 4000000 in
set_option maxRecDepth 100000 in
theorem m_L_law_b2042 {p : Program} {l : Launch} {e : Env} {s : State} {m : MethodId} {args : Array Value} {below : List Frame} {meth : Method} {c : Code} {D : va_G} {dA : Nat → ClassId} {b0 : Nat} {gs : Nat → Option Nat} (hc : zC D dA b0 gs x.cls cL_law 9 p c s m args meth) (hr : meth.sig.returnType = ret) (hin : meth.name = x.name) {r : Int32} {hh : PH} {mc ms : Nat} {L : Nat} {xs : Nat → Int32} (hl0 : l.stackTraces = false) {Q : State → Prop} (hZ : ∀ (pc : Nat) (ls : Array Slot) (H : Heap) (locs : List Loc), decode cL_law pc = .ok (.ireturn, 1) → zM D dA b0 gs s hh H locs → W p l e ({ frames := 16, cells := mc, slots := ms, locals := 3214 } : Room) s m args below meth c H locs mc ms Q (F0 m pc ls [.int r])) (k28 : PH → Nat → Nat → Nat → Nat → Nat → Int32 → ZR Int32) (hk28 : ∀ (h : PH) (a0 : Nat) (a1 : Nat) (a2 : Nat) (a3 : Nat) (a4 : Nat) (v5 : Int32) (C9 S9 : Nat) (H : Heap) (locs : List Loc) (cells slots : Nat), va_X a0 L xs s s.heap ∧ a0 < b0 → k28 h a0 a1 a2 a3 a4 v5 = some (r, hh, C9, S9) → cells + C9 = mc ∧ slots + S9 = ms → zM D dA b0 gs s h H locs → ∀ ls : Array Slot, lv_has ls 9 [(0, .ref a0), (1, .ref a1), (2, .ref a2), (3, .ref a3), (4, .ref a4), (5, .int v5)] → W p l e ({ frames := 16, cells := mc, slots := ms, locals := 3214 } : Room) s m args below meth c H locs cells slots Q (F0 m 28 ls [])) : ∀ (h : PH) (a0 : Nat) (a1 : Nat) (a2 : Nat) (a3 : Nat) (a4 : Nat) (v5 : Int32) (C9 S9 : Nat) (H : Heap) (locs : List Loc) (cells slots : Nat), va_X a0 L xs s s.heap ∧ a0 < b0 → f_L_law_b2042 L xs k28 h a0 a1 a2 a3 a4 v5 = some (r, hh, C9, S9) → cells + C9 = mc ∧ slots + S9 = ms → zM D dA b0 gs s h H locs → ∀ ls : Array Slot, lv_has ls 9 [(0, .ref a0), (1, .ref a1), (2, .ref a2), (3, .ref a3), (4, .ref a4), (5, .int v5)] → W p l e ({ frames := 16, cells := mc, slots := ms, locals := 3214 } : Room) s m args below meth c H locs cells slots Q (F0 m 2042 ls []) := by
  have hx := hc.x
  have hb := hc.b
  intro h a0 a1 a2 a3 a4 v5 C9 S9 H locs cells slots hX hf hq hn ls hl
  unfold f_L_law_b2042 at hf
  refine lv_goto (tgt := 3450) hx hb dL_law_2042 (by decide) ?_
  exact m_L_law_b3450 hc hr hin hl0 hZ k28 hk28 h a0 a1 a2 a3 a4 v5 _ _ _ _ _ _ hX hf hq hn _ (lv_sub hl [0, 1, 2, 3, 4, 5] rfl)
set_option maxHeartbeats 4000000 in
set_option maxRecDepth 100000 in
theorem m_L_law_b1968 {p : Program} {l : Launch} {e : Env} {s : State} {m : MethodId} {args : Array Value} {below : List Frame} {meth : Method} {c : Code} {D : va_G} {dA : Nat → ClassId} {b0 : Nat} {gs : Nat → Option Nat} (hc : zC D dA b0 gs x.cls cL_law 9 p c s m args meth) (hr : meth.sig.returnType = ret) (hin : meth.name = x.name) {r : Int32} {hh : PH} {mc ms : Nat} {L : Nat} {xs : Nat → Int32} (hl0 : l.stackTraces = false) {Q : State → Prop} (hZ : ∀ (pc : Nat) (ls : Array Slot) (H : Heap) (locs : List Loc), decode cL_law pc = .ok (.ireturn, 1) → zM D dA b0 gs s hh H locs → W p l e ({ frames := 16, cells := mc, slots := ms, locals := 3214 } : Room) s m args below meth c H locs mc ms Q (F0 m pc ls [.int r])) (k28 : PH → Nat → Nat → Nat → Nat → Nat → Int32 → ZR Int32) (hk28 : ∀ (h : PH) (a0 : Nat) (a1 : Nat) (a2 : Nat) (a3 : Nat) (a4 : Nat) (v5 : Int32) (C9 S9 : Nat) (H : Heap) (locs : List Loc) (cells slots : Nat), va_X a0 L xs s s.heap ∧ a0 < b0 → k28 h a0 a1 a2 a3 a4 v5 = some (r, hh, C9, S9) → cells + C9 = mc ∧ slots + S9 = ms → zM D dA b0 gs s h H locs → ∀ ls : Array Slot, lv_has ls 9 [(0, .ref a0), (1, .ref a1), (2, .ref a2), (3, .ref a3), (4, .ref a4), (5, .int v5)] → W p l e ({ frames := 16, cells := mc, slots := ms, locals := 3214 } : Room) s m args below meth c H locs cells slots Q (F0 m 28 ls [])) : ∀ (h : PH) (a0 : Nat) (a1 : Nat) (a2 : Nat) (a3 : Nat) (a4 : Nat) (v5 : Int32) (C9 S9 : Nat) (H : Heap) (locs : List Loc) (cells slots : Nat), va_X a0 L xs s s.heap ∧ a0 < b0 → f_L_law_b1968 L xs k28 h a0 a1 a2 a3 a4 v5 = some (r, hh, C9, S9) → cells + C9 = mc ∧ slots + S9 = ms → zM D dA b0 gs s h H locs → ∀ ls : Array Slot, lv_has ls 9 [(0, .ref a0), (1, .ref a1), (2, .ref a2), (3, .ref a3), (4, .ref a4), (5, .int v5)] → W p l e ({ frames := 16, cells := mc, slots := ms, locals := 3214 } : Room) s m args below meth c H locs cells slots Q (F0 m 1968 ls []) := by
  have hx := hc.x
  have hb := hc.b
  intro h a0 a1 a2 a3 a4 v5 C9 S9 H locs cells slots hX hf hq hn ls hl
  unfold f_L_law_b1968 at hf
  refine lv_aload_n (x := a1) hx hb dL_law_1968 rfl (lv_at hl 1 rfl) ?_
  refine lv_aload_n (x := a0) hx hb dL_law_1969 rfl (lv_at hl 0 rfl) ?_
  refine lv_iload hx hb dL_law_1970 (lv_at hl 5 rfl) ?_
  refine lv_iconst (v := (1 : Int32)) hx hb dL_law_1972 (by decide) ?_
  refine lv_iadd hx hb dL_law_1973 ?_
  refine zr_nmI hf (fun x101 hf => ?_)
  refine zr_xld hc hn hX hf dL_law_1974 (fun x102 hf => ?_)
  refine lv_aload (x := a4) hx hb dL_law_1975 (lv_at hl 4 rfl) ?_
  refine zr_cSWI (As := [.ref a1, .int x102, .ref a4]) (rest := []) hc hn hq hd_X0_meanLooks (lw_SW q1729 q1730 q83 q1731) (Nat.le_of_ble_eq_true rfl) (Nat.le_of_ble_eq_true rfl) (fun _ _ _ _ q => m_X0_meanLooks l hl0 D dA b0 gs h a1 x102 a4 q) hf dL_law_1977 hl.1 rfl rfl (zroom (Nat.le_of_ble_eq_true rfl)) (fun x103 h104 H locs cells slots C9 S9 hf hq hn => ?_)
  refine lv_istore (lv' := [(6, .int x103), (0, .ref a0), (1, .ref a1), (2, .ref a2), (3, .ref a3), (4, .ref a4), (5, .int v5)]) hx hb dL_law_1980 hl (by decide) rfl (fun ls hl => ?_)
  refine lv_aload_n (x := a2) hx hb dL_law_1982 rfl (lv_at hl 3 rfl) ?_
  refine lv_aload_n (x := a0) hx hb dL_law_1983 rfl (lv_at hl 1 rfl) ?_
  refine lv_iload hx hb dL_law_1984 (lv_at hl 6 rfl) ?_
  refine lv_iconst (v := (1 : Int32)) hx hb dL_law_1986 (by decide) ?_
  refine lv_iadd hx hb dL_law_1987 ?_
  refine zr_nmI hf (fun x105 hf => ?_)
  refine zr_xld hc hn hX hf dL_law_1988 (fun x106 hf => ?_)
  refine zr_cVD (As := [.int x106]) (rest := []) hc hn hq (ci := 3) rfl ⟨rfl, hd_X4_meanLooks⟩ (lw_V q2477 q2478 q2479 q91 q2480) (Nat.le_of_ble_eq_true rfl) (Nat.le_of_ble_eq_true rfl) (fun _ _ _ _ q => m_X4_meanLooks l D dA b0 gs h104 a2 x106 q) hf dL_law_1989 hl.1 rfl rfl (zroom (Nat.le_of_ble_eq_true rfl)) (fun x107 h108 H locs cells slots C9 S9 hf hq hn => ?_)
  refine lv_dstore (lv' := [(7, .double x107), (6, .int x103), (0, .ref a0), (1, .ref a1), (2, .ref a2), (3, .ref a3), (4, .ref a4), (5, .int v5)]) hx hb dL_law_1992 hl (by decide) rfl (fun ls hl => ?_)
  refine lv_aload_n (x := a2) hx hb dL_law_1994 rfl (lv_at hl 4 rfl) ?_
  refine zr_cVI (As := []) (rest := []) hc hn hq (ci := 3) rfl ⟨rfl, hd_X4_thrown⟩ (lw_V q2195 q2196 q2197 q91 q2198) (Nat.le_of_ble_eq_true rfl) (Nat.le_of_ble_eq_true rfl) (fun _ _ _ _ q => m_X4_thrown l D dA b0 gs h108 a2 q) hf dL_law_1995 hl.1 rfl rfl (zroom (Nat.le_of_ble_eq_true rfl)) (fun x109 h110 H locs cells slots C9 S9 hf hq hn => ?_)
  refine lv_iload hx hb dL_law_1998 (lv_at hl 1 rfl) ?_
  refine lv_icmp_eq (tgt := 2005) hx hb dL_law_2000 (by decide) (fun c9 => ?_) (fun c9 => ?_)
  · have hf := zif_t c9 hf
    refine lv_iload hx hb dL_law_2005 (lv_at hl 1 rfl) ?_
    refine lv_if_ne (tgt := 2042) hx hb dL_law_2007 (by decide) (fun c9 => ?_) (fun c9 => ?_)
    · have hf := zif_f c9 hf
      exact m_L_law_b2042 hc hr hin hl0 hZ k28 hk28 h110 a0 a1 a2 a3 a4 v5 _ _ _ _ _ _ hX hf hq hn _ (lv_sub hl [2, 3, 4, 5, 6, 7] rfl)
    · have hf := zif_t c9 hf
      refine lv_aload (x := a4) hx hb dL_law_2010 (lv_at hl 6 rfl) ?_
      refine lv_iconst (v := (0 : Int32)) hx hb dL_law_2012 (by decide) ?_
      refine zr_aD hc hn hf dL_law_2013 (fun x111 hf => ?_)
      refine lv_dload hx hb dL_law_2014 (lv_at hl 0 rfl) ?_
      refine lv_dcmp hx hb dL_law_2016 ?_
      refine zr_nmI hf (fun x112 hf => ?_)
      refine lv_if_eq (tgt := 2042) hx hb dL_law_2017 (by decide) (fun c9 => ?_) (fun c9 => ?_)
      · have hf := zif_t c9 hf
        exact m_L_law_b2042 hc hr hin hl0 hZ k28 hk28 h110 a0 a1 a2 a3 a4 v5 _ _ _ _ _ _ hX hf hq hn _ (lv_sub hl [2, 3, 4, 5, 6, 7] rfl)
      · have hf := zif_f c9 hf
        refine lv_aload (x := a4) hx hb dL_law_2020 (lv_at hl 6 rfl) ?_
        refine lv_iconst (v := (0 : Int32)) hx hb dL_law_2022 (by decide) ?_
        refine zr_aD hc hn hf dL_law_2023 (fun x113 hf => ?_)
        refine lv_aload (x := a4) hx hb dL_law_2024 (lv_at hl 6 rfl) ?_
        refine lv_iconst (v := (0 : Int32)) hx hb dL_law_2026 (by decide) ?_
        refine zr_aD hc hn hf dL_law_2027 (fun x114 hf => ?_)
        refine lv_dcmp hx hb dL_law_2028 ?_
        refine zr_nmI hf (fun x115 hf => ?_)
        refine lv_if_eq (tgt := 2040) hx hb dL_law_2029 (by decide) (fun c9 => ?_) (fun c9 => ?_)
        · have hf := zif_t c9 hf
          refine lv_iconst (v := (0 : Int32)) hx hb dL_law_2040 (by decide) ?_
          obtain ⟨rfl, rfl, rfl, rfl⟩ := zret_i hf
          obtain ⟨hq1, hq2⟩ := hq
          subst hq1
          subst hq2
          exact hZ _ _ _ _ dL_law_2041 hn
        · have hf := zif_f c9 hf
          refine lv_dload hx hb dL_law_2032 (lv_at hl 0 rfl) ?_
          refine lv_dload hx hb dL_law_2034 (lv_at hl 0 rfl) ?_
          refine lv_dcmp hx hb dL_law_2036 ?_
          refine zr_nmI hf (fun x116 hf => ?_)
          refine lv_if_ne (tgt := 2042) hx hb dL_law_2037 (by decide) (fun c9 => ?_) (fun c9 => ?_)
          · have hf := zif_f c9 hf
            exact m_L_law_b2042 hc hr hin hl0 hZ k28 hk28 h110 a0 a1 a2 a3 a4 v5 _ _ _ _ _ _ hX hf hq hn _ (lv_sub hl [2, 3, 4, 5, 6, 7] rfl)
          · have hf := zif_t c9 hf
            refine lv_iconst (v := (0 : Int32)) hx hb dL_law_2040 (by decide) ?_
            obtain ⟨rfl, rfl, rfl, rfl⟩ := zret_i hf
            obtain ⟨hq1, hq2⟩ := hq
            subst hq1
            subst hq2
            exact hZ _ _ _ _ dL_law_2041 hn
  · have hf := zif_f c9 hf
    refine lv_iconst (v := (0 : Int32)) hx hb dL_law_2003 (by decide) ?_
    obtain ⟨rfl, rfl, rfl, rfl⟩ := zret_i hf
    obtain ⟨hq1, hq2⟩ := hq
    subst hq1
    subst hq2
    exact hZ _ _ _ _ dL_law_2004 hn
set_option maxHeartbeats 4000000 in
set_option maxRecDepth 100000 in
theorem m_L_law_b2110 {p : Program} {l : Launch} {e : Env} {s : State} {m : MethodId} {args : Array Value} {below : List Frame} {meth : Method} {c : Code} {D : va_G} {dA : Nat → ClassId} {b0 : Nat} {gs : Nat → Option Nat} (hc : zC D dA b0 gs x.cls cL_law 9 p c s m args meth) (hr : meth.sig.returnType = ret) (hin : meth.name = x.name) {r : Int32} {hh : PH} {mc ms : Nat} {L : Nat} {xs : Nat → Int32} (hl0 : l.stackTraces = false) {Q : State → Prop} (hZ : ∀ (pc : Nat) (ls : Array Slot) (H : Heap) (locs : List Loc), decode cL_law pc = .ok (.ireturn, 1) → zM D dA b0 gs s hh H locs → W p l e ({ frames := 16, cells := mc, slots := ms, locals := 3214 } : Room) s m args below meth c H locs mc ms Q (F0 m pc ls [.int r])) (k28 : PH → Nat → Nat → Nat → Nat → Nat → Int32 → ZR Int32) (hk28 : ∀ (h : PH) (a0 : Nat) (a1 : Nat) (a2 : Nat) (a3 : Nat) (a4 : Nat) (v5 : Int32) (C9 S9 : Nat) (H : Heap) (locs : List Loc) (cells slots : Nat), va_X a0 L xs s s.heap ∧ a0 < b0 → k28 h a0 a1 a2 a3 a4 v5 = some (r, hh, C9, S9) → cells + C9 = mc ∧ slots + S9 = ms → zM D dA b0 gs s h H locs → ∀ ls : Array Slot, lv_has ls 9 [(0, .ref a0), (1, .ref a1), (2, .ref a2), (3, .ref a3), (4, .ref a4), (5, .int v5)] → W p l e ({ frames := 16, cells := mc, slots := ms, locals := 3214 } : Room) s m args below meth c H locs cells slots Q (F0 m 28 ls [])) : ∀ (h : PH) (a0 : Nat) (a1 : Nat) (a2 : Nat) (a3 : Nat) (a4 : Nat) (v5 : Int32) (C9 S9 : Nat) (H : Heap) (locs : List Loc) (cells slots : Nat), va_X a0 L xs s s.heap ∧ a0 < b0 → f_L_law_b2110 L xs k28 h a0 a1 a2 a3 a4 v5 = some (r, hh, C9, S9) → cells + C9 = mc ∧ slots + S9 = ms → zM D dA b0 gs s h H locs → ∀ ls : Array Slot, lv_has ls 9 [(0, .ref a0), (1, .ref a1), (2, .ref a2), (3, .ref a3), (4, .ref a4), (5, .int v5)] → W p l e ({ frames := 16, cells := mc, slots := ms, locals := 3214 } : Room) s m args below meth c H locs cells slots Q (F0 m 2110 ls []) := by
  have hx := hc.x
  have hb := hc.b
  intro h a0 a1 a2 a3 a4 v5 C9 S9 H locs cells slots hX hf hq hn ls hl
  unfold f_L_law_b2110 at hf
  refine lv_goto (tgt := 3450) hx hb dL_law_2110 (by decide) ?_
  exact m_L_law_b3450 hc hr hin hl0 hZ k28 hk28 h a0 a1 a2 a3 a4 v5 _ _ _ _ _ _ hX hf hq hn _ (lv_sub hl [0, 1, 2, 3, 4, 5] rfl)
set_option maxHeartbeats 4000000 in
set_option maxRecDepth 100000 in
theorem m_L_law_b2045 {p : Program} {l : Launch} {e : Env} {s : State} {m : MethodId} {args : Array Value} {below : List Frame} {meth : Method} {c : Code} {D : va_G} {dA : Nat → ClassId} {b0 : Nat} {gs : Nat → Option Nat} (hc : zC D dA b0 gs x.cls cL_law 9 p c s m args meth) (hr : meth.sig.returnType = ret) (hin : meth.name = x.name) {r : Int32} {hh : PH} {mc ms : Nat} {L : Nat} {xs : Nat → Int32} (hl0 : l.stackTraces = false) {Q : State → Prop} (hZ : ∀ (pc : Nat) (ls : Array Slot) (H : Heap) (locs : List Loc), decode cL_law pc = .ok (.ireturn, 1) → zM D dA b0 gs s hh H locs → W p l e ({ frames := 16, cells := mc, slots := ms, locals := 3214 } : Room) s m args below meth c H locs mc ms Q (F0 m pc ls [.int r])) (k28 : PH → Nat → Nat → Nat → Nat → Nat → Int32 → ZR Int32) (hk28 : ∀ (h : PH) (a0 : Nat) (a1 : Nat) (a2 : Nat) (a3 : Nat) (a4 : Nat) (v5 : Int32) (C9 S9 : Nat) (H : Heap) (locs : List Loc) (cells slots : Nat), va_X a0 L xs s s.heap ∧ a0 < b0 → k28 h a0 a1 a2 a3 a4 v5 = some (r, hh, C9, S9) → cells + C9 = mc ∧ slots + S9 = ms → zM D dA b0 gs s h H locs → ∀ ls : Array Slot, lv_has ls 9 [(0, .ref a0), (1, .ref a1), (2, .ref a2), (3, .ref a3), (4, .ref a4), (5, .int v5)] → W p l e ({ frames := 16, cells := mc, slots := ms, locals := 3214 } : Room) s m args below meth c H locs cells slots Q (F0 m 28 ls [])) : ∀ (h : PH) (a0 : Nat) (a1 : Nat) (a2 : Nat) (a3 : Nat) (a4 : Nat) (v5 : Int32) (C9 S9 : Nat) (H : Heap) (locs : List Loc) (cells slots : Nat), va_X a0 L xs s s.heap ∧ a0 < b0 → f_L_law_b2045 L xs k28 h a0 a1 a2 a3 a4 v5 = some (r, hh, C9, S9) → cells + C9 = mc ∧ slots + S9 = ms → zM D dA b0 gs s h H locs → ∀ ls : Array Slot, lv_has ls 9 [(0, .ref a0), (1, .ref a1), (2, .ref a2), (3, .ref a3), (4, .ref a4), (5, .int v5)] → W p l e ({ frames := 16, cells := mc, slots := ms, locals := 3214 } : Room) s m args below meth c H locs cells slots Q (F0 m 2045 ls []) := by
  have hx := hc.x
  have hb := hc.b
  intro h a0 a1 a2 a3 a4 v5 C9 S9 H locs cells slots hX hf hq hn ls hl
  unfold f_L_law_b2045 at hf
  refine lv_aload_n (x := a1) hx hb dL_law_2045 rfl (lv_at hl 1 rfl) ?_
  refine lv_aload_n (x := a0) hx hb dL_law_2046 rfl (lv_at hl 0 rfl) ?_
  refine lv_iload hx hb dL_law_2047 (lv_at hl 5 rfl) ?_
  refine lv_iconst (v := (1 : Int32)) hx hb dL_law_2049 (by decide) ?_
  refine lv_iadd hx hb dL_law_2050 ?_
  refine zr_nmI hf (fun x101 hf => ?_)
  refine zr_xld hc hn hX hf dL_law_2051 (fun x102 hf => ?_)
  refine lv_aload_n (x := a0) hx hb dL_law_2052 rfl (lv_at hl 0 rfl) ?_
  refine lv_iload hx hb dL_law_2053 (lv_at hl 5 rfl) ?_
  refine lv_iconst (v := (2 : Int32)) hx hb dL_law_2055 (by decide) ?_
  refine lv_iadd hx hb dL_law_2056 ?_
  refine zr_nmI hf (fun x103 hf => ?_)
  refine zr_xld hc hn hX hf dL_law_2057 (fun x104 hf => ?_)
  refine lv_aload_n (x := a3) hx hb dL_law_2058 rfl (lv_at hl 3 rfl) ?_
  refine zr_cSWI (As := [.ref a1, .int x102, .int x104, .ref a3]) (rest := []) hc hn hq hd_X0_heightIfInserted (lw_SW q1736 q1737 q83 q1738) (Nat.le_of_ble_eq_true rfl) (Nat.le_of_ble_eq_true rfl) (fun _ _ _ _ q => m_X0_heightIfInserted l hl0 D dA b0 gs h a1 x102 x104 a3 q) hf dL_law_2059 hl.1 rfl rfl (zroom (Nat.le_of_ble_eq_true rfl)) (fun x105 h106 H locs cells slots C9 S9 hf hq hn => ?_)
  refine lv_istore (lv' := [(6, .int x105), (0, .ref a0), (1, .ref a1), (2, .ref a2), (3, .ref a3), (4, .ref a4), (5, .int v5)]) hx hb dL_law_2062 hl (by decide) rfl (fun ls hl => ?_)
  refine lv_aload_n (x := a2) hx hb dL_law_2064 rfl (lv_at hl 3 rfl) ?_
  refine lv_aload_n (x := a0) hx hb dL_law_2065 rfl (lv_at hl 1 rfl) ?_
  refine lv_iload hx hb dL_law_2066 (lv_at hl 6 rfl) ?_
  refine lv_iconst (v := (1 : Int32)) hx hb dL_law_2068 (by decide) ?_
  refine lv_iadd hx hb dL_law_2069 ?_
  refine zr_nmI hf (fun x107 hf => ?_)
  refine zr_xld hc hn hX hf dL_law_2070 (fun x108 hf => ?_)
  refine lv_aload_n (x := a0) hx hb dL_law_2071 rfl (lv_at hl 1 rfl) ?_
  refine lv_iload hx hb dL_law_2072 (lv_at hl 6 rfl) ?_
  refine lv_iconst (v := (2 : Int32)) hx hb dL_law_2074 (by decide) ?_
  refine lv_iadd hx hb dL_law_2075 ?_
  refine zr_nmI hf (fun x109 hf => ?_)
  refine zr_xld hc hn hX hf dL_law_2076 (fun x110 hf => ?_)
  refine zr_cVI (As := [.int x108, .int x110]) (rest := []) hc hn hq (ci := 3) rfl ⟨rfl, hd_X4_heightIfInserted⟩ (lw_V q2481 q2482 q2483 q91 q2484) (Nat.le_of_ble_eq_true rfl) (Nat.le_of_ble_eq_true rfl) (fun _ _ _ _ q => m_X4_heightIfInserted l D dA b0 gs h106 a2 x108 x110 q) hf dL_law_2077 hl.1 rfl rfl (zroom (Nat.le_of_ble_eq_true rfl)) (fun x111 h112 H locs cells slots C9 S9 hf hq hn => ?_)
  refine lv_istore (lv' := [(7, .int x111), (6, .int x105), (0, .ref a0), (1, .ref a1), (2, .ref a2), (3, .ref a3), (4, .ref a4), (5, .int v5)]) hx hb dL_law_2080 hl (by decide) rfl (fun ls hl => ?_)
  refine lv_aload_n (x := a2) hx hb dL_law_2082 rfl (lv_at hl 4 rfl) ?_
  refine zr_cVI (As := []) (rest := []) hc hn hq (ci := 3) rfl ⟨rfl, hd_X4_thrown⟩ (lw_V q2195 q2196 q2197 q91 q2198) (Nat.le_of_ble_eq_true rfl) (Nat.le_of_ble_eq_true rfl) (fun _ _ _ _ q => m_X4_thrown l D dA b0 gs h112 a2 q) hf dL_law_2083 hl.1 rfl rfl (zroom (Nat.le_of_ble_eq_true rfl)) (fun x113 h114 H locs cells slots C9 S9 hf hq hn => ?_)
  refine lv_iload hx hb dL_law_2086 (lv_at hl 1 rfl) ?_
  refine lv_icmp_eq (tgt := 2093) hx hb dL_law_2088 (by decide) (fun c9 => ?_) (fun c9 => ?_)
  · have hf := zif_t c9 hf
    refine lv_iload hx hb dL_law_2093 (lv_at hl 1 rfl) ?_
    refine lv_if_ne (tgt := 2110) hx hb dL_law_2095 (by decide) (fun c9 => ?_) (fun c9 => ?_)
    · have hf := zif_f c9 hf
      exact m_L_law_b2110 hc hr hin hl0 hZ k28 hk28 h114 a0 a1 a2 a3 a4 v5 _ _ _ _ _ _ hX hf hq hn _ (lv_sub hl [2, 3, 4, 5, 6, 7] rfl)
    · have hf := zif_t c9 hf
      refine lv_aload_n (x := a3) hx hb dL_law_2098 rfl (lv_at hl 5 rfl) ?_
      refine lv_iconst (v := (0 : Int32)) hx hb dL_law_2099 (by decide) ?_
      refine zr_aL hc hn hf dL_law_2100 (fun x115 hf => ?_)
      refine lv_iload hx hb dL_law_2101 (lv_at hl 0 rfl) ?_
      refine lv_i2l (v := x111.toInt64) hx hb dL_law_2103 rfl ?_
      refine zr_nmL hf (fun x116 hf => ?_)
      refine W.lcmp hx hb dL_law_2104 ?_
      refine zr_nmI hf (fun x117 hf => ?_)
      refine lv_if_eq (tgt := 2110) hx hb dL_law_2105 (by decide) (fun c9 => ?_) (fun c9 => ?_)
      · have hf := zif_t c9 hf
        exact m_L_law_b2110 hc hr hin hl0 hZ k28 hk28 h114 a0 a1 a2 a3 a4 v5 _ _ _ _ _ _ hX hf hq hn _ (lv_sub hl [2, 3, 4, 5, 6, 7] rfl)
      · have hf := zif_f c9 hf
        refine lv_iconst (v := (0 : Int32)) hx hb dL_law_2108 (by decide) ?_
        obtain ⟨rfl, rfl, rfl, rfl⟩ := zret_i hf
        obtain ⟨hq1, hq2⟩ := hq
        subst hq1
        subst hq2
        exact hZ _ _ _ _ dL_law_2109 hn
  · have hf := zif_f c9 hf
    refine lv_iconst (v := (0 : Int32)) hx hb dL_law_2091 (by decide) ?_
    obtain ⟨rfl, rfl, rfl, rfl⟩ := zret_i hf
    obtain ⟨hq1, hq2⟩ := hq
    subst hq1
    subst hq2
    exact hZ _ _ _ _ dL_law_2092 hn
set_option maxHeartbeats 4000000 in
set_option maxRecDepth 100000 in
theorem m_L_law_b2178 {p : Program} {l : Launch} {e : Env} {s : State} {m : MethodId} {args : Array Value} {below : List Frame} {meth : Method} {c : Code} {D : va_G} {dA : Nat → ClassId} {b0 : Nat} {gs : Nat → Option Nat} (hc : zC D dA b0 gs x.cls cL_law 9 p c s m args meth) (hr : meth.sig.returnType = ret) (hin : meth.name = x.name) {r : Int32} {hh : PH} {mc ms : Nat} {L : Nat} {xs : Nat → Int32} (hl0 : l.stackTraces = false) {Q : State → Prop} (hZ : ∀ (pc : Nat) (ls : Array Slot) (H : Heap) (locs : List Loc), decode cL_law pc = .ok (.ireturn, 1) → zM D dA b0 gs s hh H locs → W p l e ({ frames := 16, cells := mc, slots := ms, locals := 3214 } : Room) s m args below meth c H locs mc ms Q (F0 m pc ls [.int r])) (k28 : PH → Nat → Nat → Nat → Nat → Nat → Int32 → ZR Int32) (hk28 : ∀ (h : PH) (a0 : Nat) (a1 : Nat) (a2 : Nat) (a3 : Nat) (a4 : Nat) (v5 : Int32) (C9 S9 : Nat) (H : Heap) (locs : List Loc) (cells slots : Nat), va_X a0 L xs s s.heap ∧ a0 < b0 → k28 h a0 a1 a2 a3 a4 v5 = some (r, hh, C9, S9) → cells + C9 = mc ∧ slots + S9 = ms → zM D dA b0 gs s h H locs → ∀ ls : Array Slot, lv_has ls 9 [(0, .ref a0), (1, .ref a1), (2, .ref a2), (3, .ref a3), (4, .ref a4), (5, .int v5)] → W p l e ({ frames := 16, cells := mc, slots := ms, locals := 3214 } : Room) s m args below meth c H locs cells slots Q (F0 m 28 ls [])) : ∀ (h : PH) (a0 : Nat) (a1 : Nat) (a2 : Nat) (a3 : Nat) (a4 : Nat) (v5 : Int32) (C9 S9 : Nat) (H : Heap) (locs : List Loc) (cells slots : Nat), va_X a0 L xs s s.heap ∧ a0 < b0 → f_L_law_b2178 L xs k28 h a0 a1 a2 a3 a4 v5 = some (r, hh, C9, S9) → cells + C9 = mc ∧ slots + S9 = ms → zM D dA b0 gs s h H locs → ∀ ls : Array Slot, lv_has ls 9 [(0, .ref a0), (1, .ref a1), (2, .ref a2), (3, .ref a3), (4, .ref a4), (5, .int v5)] → W p l e ({ frames := 16, cells := mc, slots := ms, locals := 3214 } : Room) s m args below meth c H locs cells slots Q (F0 m 2178 ls []) := by
  have hx := hc.x
  have hb := hc.b
  intro h a0 a1 a2 a3 a4 v5 C9 S9 H locs cells slots hX hf hq hn ls hl
  unfold f_L_law_b2178 at hf
  refine lv_goto (tgt := 3450) hx hb dL_law_2178 (by decide) ?_
  exact m_L_law_b3450 hc hr hin hl0 hZ k28 hk28 h a0 a1 a2 a3 a4 v5 _ _ _ _ _ _ hX hf hq hn _ (lv_sub hl [0, 1, 2, 3, 4, 5] rfl)
set_option maxHeartbeats 4000000 in
set_option maxRecDepth 100000 in
theorem m_L_law_b2113 {p : Program} {l : Launch} {e : Env} {s : State} {m : MethodId} {args : Array Value} {below : List Frame} {meth : Method} {c : Code} {D : va_G} {dA : Nat → ClassId} {b0 : Nat} {gs : Nat → Option Nat} (hc : zC D dA b0 gs x.cls cL_law 9 p c s m args meth) (hr : meth.sig.returnType = ret) (hin : meth.name = x.name) {r : Int32} {hh : PH} {mc ms : Nat} {L : Nat} {xs : Nat → Int32} (hl0 : l.stackTraces = false) {Q : State → Prop} (hZ : ∀ (pc : Nat) (ls : Array Slot) (H : Heap) (locs : List Loc), decode cL_law pc = .ok (.ireturn, 1) → zM D dA b0 gs s hh H locs → W p l e ({ frames := 16, cells := mc, slots := ms, locals := 3214 } : Room) s m args below meth c H locs mc ms Q (F0 m pc ls [.int r])) (k28 : PH → Nat → Nat → Nat → Nat → Nat → Int32 → ZR Int32) (hk28 : ∀ (h : PH) (a0 : Nat) (a1 : Nat) (a2 : Nat) (a3 : Nat) (a4 : Nat) (v5 : Int32) (C9 S9 : Nat) (H : Heap) (locs : List Loc) (cells slots : Nat), va_X a0 L xs s s.heap ∧ a0 < b0 → k28 h a0 a1 a2 a3 a4 v5 = some (r, hh, C9, S9) → cells + C9 = mc ∧ slots + S9 = ms → zM D dA b0 gs s h H locs → ∀ ls : Array Slot, lv_has ls 9 [(0, .ref a0), (1, .ref a1), (2, .ref a2), (3, .ref a3), (4, .ref a4), (5, .int v5)] → W p l e ({ frames := 16, cells := mc, slots := ms, locals := 3214 } : Room) s m args below meth c H locs cells slots Q (F0 m 28 ls [])) : ∀ (h : PH) (a0 : Nat) (a1 : Nat) (a2 : Nat) (a3 : Nat) (a4 : Nat) (v5 : Int32) (C9 S9 : Nat) (H : Heap) (locs : List Loc) (cells slots : Nat), va_X a0 L xs s s.heap ∧ a0 < b0 → f_L_law_b2113 L xs k28 h a0 a1 a2 a3 a4 v5 = some (r, hh, C9, S9) → cells + C9 = mc ∧ slots + S9 = ms → zM D dA b0 gs s h H locs → ∀ ls : Array Slot, lv_has ls 9 [(0, .ref a0), (1, .ref a1), (2, .ref a2), (3, .ref a3), (4, .ref a4), (5, .int v5)] → W p l e ({ frames := 16, cells := mc, slots := ms, locals := 3214 } : Room) s m args below meth c H locs cells slots Q (F0 m 2113 ls []) := by
  have hx := hc.x
  have hb := hc.b
  intro h a0 a1 a2 a3 a4 v5 C9 S9 H locs cells slots hX hf hq hn ls hl
  unfold f_L_law_b2113 at hf
  refine lv_aload_n (x := a1) hx hb dL_law_2113 rfl (lv_at hl 1 rfl) ?_
  refine lv_aload_n (x := a0) hx hb dL_law_2114 rfl (lv_at hl 0 rfl) ?_
  refine lv_iload hx hb dL_law_2115 (lv_at hl 5 rfl) ?_
  refine lv_iconst (v := (1 : Int32)) hx hb dL_law_2117 (by decide) ?_
  refine lv_iadd hx hb dL_law_2118 ?_
  refine zr_nmI hf (fun x101 hf => ?_)
  refine zr_xld hc hn hX hf dL_law_2119 (fun x102 hf => ?_)
  refine lv_aload_n (x := a0) hx hb dL_law_2120 rfl (lv_at hl 0 rfl) ?_
  refine lv_iload hx hb dL_law_2121 (lv_at hl 5 rfl) ?_
  refine lv_iconst (v := (2 : Int32)) hx hb dL_law_2123 (by decide) ?_
  refine lv_iadd hx hb dL_law_2124 ?_
  refine zr_nmI hf (fun x103 hf => ?_)
  refine zr_xld hc hn hX hf dL_law_2125 (fun x104 hf => ?_)
  refine lv_aload_n (x := a3) hx hb dL_law_2126 rfl (lv_at hl 3 rfl) ?_
  refine zr_cSWI (As := [.ref a1, .int x102, .int x104, .ref a3]) (rest := []) hc hn hq hd_X0_repairsIfRemoved (lw_SW q1766 q1767 q83 q1768) (Nat.le_of_ble_eq_true rfl) (Nat.le_of_ble_eq_true rfl) (fun _ _ _ _ q => m_X0_repairsIfRemoved l hl0 D dA b0 gs h a1 x102 x104 a3 q) hf dL_law_2127 hl.1 rfl rfl (zroom (Nat.le_of_ble_eq_true rfl)) (fun x105 h106 H locs cells slots C9 S9 hf hq hn => ?_)
  refine lv_istore (lv' := [(6, .int x105), (0, .ref a0), (1, .ref a1), (2, .ref a2), (3, .ref a3), (4, .ref a4), (5, .int v5)]) hx hb dL_law_2130 hl (by decide) rfl (fun ls hl => ?_)
  refine lv_aload_n (x := a2) hx hb dL_law_2132 rfl (lv_at hl 3 rfl) ?_
  refine lv_aload_n (x := a0) hx hb dL_law_2133 rfl (lv_at hl 1 rfl) ?_
  refine lv_iload hx hb dL_law_2134 (lv_at hl 6 rfl) ?_
  refine lv_iconst (v := (1 : Int32)) hx hb dL_law_2136 (by decide) ?_
  refine lv_iadd hx hb dL_law_2137 ?_
  refine zr_nmI hf (fun x107 hf => ?_)
  refine zr_xld hc hn hX hf dL_law_2138 (fun x108 hf => ?_)
  refine lv_aload_n (x := a0) hx hb dL_law_2139 rfl (lv_at hl 1 rfl) ?_
  refine lv_iload hx hb dL_law_2140 (lv_at hl 6 rfl) ?_
  refine lv_iconst (v := (2 : Int32)) hx hb dL_law_2142 (by decide) ?_
  refine lv_iadd hx hb dL_law_2143 ?_
  refine zr_nmI hf (fun x109 hf => ?_)
  refine zr_xld hc hn hX hf dL_law_2144 (fun x110 hf => ?_)
  refine zr_cVI (As := [.int x108, .int x110]) (rest := []) hc hn hq (ci := 3) rfl ⟨rfl, hd_X4_repairsIfRemoved⟩ (lw_V q2497 q2498 q2499 q91 q2500) (Nat.le_of_ble_eq_true rfl) (Nat.le_of_ble_eq_true rfl) (fun _ _ _ _ q => m_X4_repairsIfRemoved l D dA b0 gs h106 a2 x108 x110 q) hf dL_law_2145 hl.1 rfl rfl (zroom (Nat.le_of_ble_eq_true rfl)) (fun x111 h112 H locs cells slots C9 S9 hf hq hn => ?_)
  refine lv_istore (lv' := [(7, .int x111), (6, .int x105), (0, .ref a0), (1, .ref a1), (2, .ref a2), (3, .ref a3), (4, .ref a4), (5, .int v5)]) hx hb dL_law_2148 hl (by decide) rfl (fun ls hl => ?_)
  refine lv_aload_n (x := a2) hx hb dL_law_2150 rfl (lv_at hl 4 rfl) ?_
  refine zr_cVI (As := []) (rest := []) hc hn hq (ci := 3) rfl ⟨rfl, hd_X4_thrown⟩ (lw_V q2195 q2196 q2197 q91 q2198) (Nat.le_of_ble_eq_true rfl) (Nat.le_of_ble_eq_true rfl) (fun _ _ _ _ q => m_X4_thrown l D dA b0 gs h112 a2 q) hf dL_law_2151 hl.1 rfl rfl (zroom (Nat.le_of_ble_eq_true rfl)) (fun x113 h114 H locs cells slots C9 S9 hf hq hn => ?_)
  refine lv_iload hx hb dL_law_2154 (lv_at hl 1 rfl) ?_
  refine lv_icmp_eq (tgt := 2161) hx hb dL_law_2156 (by decide) (fun c9 => ?_) (fun c9 => ?_)
  · have hf := zif_t c9 hf
    refine lv_iload hx hb dL_law_2161 (lv_at hl 1 rfl) ?_
    refine lv_if_ne (tgt := 2178) hx hb dL_law_2163 (by decide) (fun c9 => ?_) (fun c9 => ?_)
    · have hf := zif_f c9 hf
      exact m_L_law_b2178 hc hr hin hl0 hZ k28 hk28 h114 a0 a1 a2 a3 a4 v5 _ _ _ _ _ _ hX hf hq hn _ (lv_sub hl [2, 3, 4, 5, 6, 7] rfl)
    · have hf := zif_t c9 hf
      refine lv_aload_n (x := a3) hx hb dL_law_2166 rfl (lv_at hl 5 rfl) ?_
      refine lv_iconst (v := (0 : Int32)) hx hb dL_law_2167 (by decide) ?_
      refine zr_aL hc hn hf dL_law_2168 (fun x115 hf => ?_)
      refine lv_iload hx hb dL_law_2169 (lv_at hl 0 rfl) ?_
      refine lv_i2l (v := x111.toInt64) hx hb dL_law_2171 rfl ?_
      refine zr_nmL hf (fun x116 hf => ?_)
      refine W.lcmp hx hb dL_law_2172 ?_
      refine zr_nmI hf (fun x117 hf => ?_)
      refine lv_if_eq (tgt := 2178) hx hb dL_law_2173 (by decide) (fun c9 => ?_) (fun c9 => ?_)
      · have hf := zif_t c9 hf
        exact m_L_law_b2178 hc hr hin hl0 hZ k28 hk28 h114 a0 a1 a2 a3 a4 v5 _ _ _ _ _ _ hX hf hq hn _ (lv_sub hl [2, 3, 4, 5, 6, 7] rfl)
      · have hf := zif_f c9 hf
        refine lv_iconst (v := (0 : Int32)) hx hb dL_law_2176 (by decide) ?_
        obtain ⟨rfl, rfl, rfl, rfl⟩ := zret_i hf
        obtain ⟨hq1, hq2⟩ := hq
        subst hq1
        subst hq2
        exact hZ _ _ _ _ dL_law_2177 hn
  · have hf := zif_f c9 hf
    refine lv_iconst (v := (0 : Int32)) hx hb dL_law_2159 (by decide) ?_
    obtain ⟨rfl, rfl, rfl, rfl⟩ := zret_i hf
    obtain ⟨hq1, hq2⟩ := hq
    subst hq1
    subst hq2
    exact hZ _ _ _ _ dL_law_2160 hn
set_option maxHeartbeats 4000000 in
set_option maxRecDepth 100000 in
theorem m_L_law_b2234 {p : Program} {l : Launch} {e : Env} {s : State} {m : MethodId} {args : Array Value} {below : List Frame} {meth : Method} {c : Code} {D : va_G} {dA : Nat → ClassId} {b0 : Nat} {gs : Nat → Option Nat} (hc : zC D dA b0 gs x.cls cL_law 9 p c s m args meth) (hr : meth.sig.returnType = ret) (hin : meth.name = x.name) {r : Int32} {hh : PH} {mc ms : Nat} {L : Nat} {xs : Nat → Int32} (hl0 : l.stackTraces = false) {Q : State → Prop} (hZ : ∀ (pc : Nat) (ls : Array Slot) (H : Heap) (locs : List Loc), decode cL_law pc = .ok (.ireturn, 1) → zM D dA b0 gs s hh H locs → W p l e ({ frames := 16, cells := mc, slots := ms, locals := 3214 } : Room) s m args below meth c H locs mc ms Q (F0 m pc ls [.int r])) (k28 : PH → Nat → Nat → Nat → Nat → Nat → Int32 → ZR Int32) (hk28 : ∀ (h : PH) (a0 : Nat) (a1 : Nat) (a2 : Nat) (a3 : Nat) (a4 : Nat) (v5 : Int32) (C9 S9 : Nat) (H : Heap) (locs : List Loc) (cells slots : Nat), va_X a0 L xs s s.heap ∧ a0 < b0 → k28 h a0 a1 a2 a3 a4 v5 = some (r, hh, C9, S9) → cells + C9 = mc ∧ slots + S9 = ms → zM D dA b0 gs s h H locs → ∀ ls : Array Slot, lv_has ls 9 [(0, .ref a0), (1, .ref a1), (2, .ref a2), (3, .ref a3), (4, .ref a4), (5, .int v5)] → W p l e ({ frames := 16, cells := mc, slots := ms, locals := 3214 } : Room) s m args below meth c H locs cells slots Q (F0 m 28 ls [])) : ∀ (h : PH) (a0 : Nat) (a1 : Nat) (a2 : Nat) (a3 : Nat) (a4 : Nat) (v5 : Int32) (C9 S9 : Nat) (H : Heap) (locs : List Loc) (cells slots : Nat), va_X a0 L xs s s.heap ∧ a0 < b0 → f_L_law_b2234 L xs k28 h a0 a1 a2 a3 a4 v5 = some (r, hh, C9, S9) → cells + C9 = mc ∧ slots + S9 = ms → zM D dA b0 gs s h H locs → ∀ ls : Array Slot, lv_has ls 9 [(0, .ref a0), (1, .ref a1), (2, .ref a2), (3, .ref a3), (4, .ref a4), (5, .int v5)] → W p l e ({ frames := 16, cells := mc, slots := ms, locals := 3214 } : Room) s m args below meth c H locs cells slots Q (F0 m 2234 ls []) := by
  have hx := hc.x
  have hb := hc.b
  intro h a0 a1 a2 a3 a4 v5 C9 S9 H locs cells slots hX hf hq hn ls hl
  unfold f_L_law_b2234 at hf
  refine lv_goto (tgt := 3450) hx hb dL_law_2234 (by decide) ?_
  exact m_L_law_b3450 hc hr hin hl0 hZ k28 hk28 h a0 a1 a2 a3 a4 v5 _ _ _ _ _ _ hX hf hq hn _ (lv_sub hl [0, 1, 2, 3, 4, 5] rfl)
set_option maxHeartbeats 4000000 in
set_option maxRecDepth 100000 in
theorem m_L_law_b2181 {p : Program} {l : Launch} {e : Env} {s : State} {m : MethodId} {args : Array Value} {below : List Frame} {meth : Method} {c : Code} {D : va_G} {dA : Nat → ClassId} {b0 : Nat} {gs : Nat → Option Nat} (hc : zC D dA b0 gs x.cls cL_law 9 p c s m args meth) (hr : meth.sig.returnType = ret) (hin : meth.name = x.name) {r : Int32} {hh : PH} {mc ms : Nat} {L : Nat} {xs : Nat → Int32} (hl0 : l.stackTraces = false) {Q : State → Prop} (hZ : ∀ (pc : Nat) (ls : Array Slot) (H : Heap) (locs : List Loc), decode cL_law pc = .ok (.ireturn, 1) → zM D dA b0 gs s hh H locs → W p l e ({ frames := 16, cells := mc, slots := ms, locals := 3214 } : Room) s m args below meth c H locs mc ms Q (F0 m pc ls [.int r])) (k28 : PH → Nat → Nat → Nat → Nat → Nat → Int32 → ZR Int32) (hk28 : ∀ (h : PH) (a0 : Nat) (a1 : Nat) (a2 : Nat) (a3 : Nat) (a4 : Nat) (v5 : Int32) (C9 S9 : Nat) (H : Heap) (locs : List Loc) (cells slots : Nat), va_X a0 L xs s s.heap ∧ a0 < b0 → k28 h a0 a1 a2 a3 a4 v5 = some (r, hh, C9, S9) → cells + C9 = mc ∧ slots + S9 = ms → zM D dA b0 gs s h H locs → ∀ ls : Array Slot, lv_has ls 9 [(0, .ref a0), (1, .ref a1), (2, .ref a2), (3, .ref a3), (4, .ref a4), (5, .int v5)] → W p l e ({ frames := 16, cells := mc, slots := ms, locals := 3214 } : Room) s m args below meth c H locs cells slots Q (F0 m 28 ls [])) : ∀ (h : PH) (a0 : Nat) (a1 : Nat) (a2 : Nat) (a3 : Nat) (a4 : Nat) (v5 : Int32) (C9 S9 : Nat) (H : Heap) (locs : List Loc) (cells slots : Nat), va_X a0 L xs s s.heap ∧ a0 < b0 → f_L_law_b2181 L xs k28 h a0 a1 a2 a3 a4 v5 = some (r, hh, C9, S9) → cells + C9 = mc ∧ slots + S9 = ms → zM D dA b0 gs s h H locs → ∀ ls : Array Slot, lv_has ls 9 [(0, .ref a0), (1, .ref a1), (2, .ref a2), (3, .ref a3), (4, .ref a4), (5, .int v5)] → W p l e ({ frames := 16, cells := mc, slots := ms, locals := 3214 } : Room) s m args below meth c H locs cells slots Q (F0 m 2181 ls []) := by
  have hx := hc.x
  have hb := hc.b
  intro h a0 a1 a2 a3 a4 v5 C9 S9 H locs cells slots hX hf hq hn ls hl
  unfold f_L_law_b2181 at hf
  refine lv_aload_n (x := a1) hx hb dL_law_2181 rfl (lv_at hl 1 rfl) ?_
  refine lv_aload_n (x := a0) hx hb dL_law_2182 rfl (lv_at hl 0 rfl) ?_
  refine lv_iload hx hb dL_law_2183 (lv_at hl 5 rfl) ?_
  refine lv_iconst (v := (1 : Int32)) hx hb dL_law_2185 (by decide) ?_
  refine lv_iadd hx hb dL_law_2186 ?_
  refine zr_nmI hf (fun x101 hf => ?_)
  refine zr_xld hc hn hX hf dL_law_2187 (fun x102 hf => ?_)
  refine lv_aload_n (x := a3) hx hb dL_law_2188 rfl (lv_at hl 3 rfl) ?_
  refine zr_cSWI (As := [.ref a1, .int x102, .ref a3]) (rest := []) hc hn hq hd_X0_repairsIfLimit (lw_SW q1777 q1778 q83 q1779) (Nat.le_of_ble_eq_true rfl) (Nat.le_of_ble_eq_true rfl) (fun _ _ _ _ q => m_X0_repairsIfLimit l hl0 D dA b0 gs h a1 x102 a3 q) hf dL_law_2189 hl.1 rfl rfl (zroom (Nat.le_of_ble_eq_true rfl)) (fun x103 h104 H locs cells slots C9 S9 hf hq hn => ?_)
  refine lv_istore (lv' := [(6, .int x103), (0, .ref a0), (1, .ref a1), (2, .ref a2), (3, .ref a3), (4, .ref a4), (5, .int v5)]) hx hb dL_law_2192 hl (by decide) rfl (fun ls hl => ?_)
  refine lv_aload_n (x := a2) hx hb dL_law_2194 rfl (lv_at hl 3 rfl) ?_
  refine lv_aload_n (x := a0) hx hb dL_law_2195 rfl (lv_at hl 1 rfl) ?_
  refine lv_iload hx hb dL_law_2196 (lv_at hl 6 rfl) ?_
  refine lv_iconst (v := (1 : Int32)) hx hb dL_law_2198 (by decide) ?_
  refine lv_iadd hx hb dL_law_2199 ?_
  refine zr_nmI hf (fun x105 hf => ?_)
  refine zr_xld hc hn hX hf dL_law_2200 (fun x106 hf => ?_)
  refine zr_cVI (As := [.int x106]) (rest := []) hc hn hq (ci := 3) rfl ⟨rfl, hd_X4_repairsIfLimit⟩ (lw_V q2505 q2506 q2507 q91 q2508) (Nat.le_of_ble_eq_true rfl) (Nat.le_of_ble_eq_true rfl) (fun _ _ _ _ q => m_X4_repairsIfLimit l D dA b0 gs h104 a2 x106 q) hf dL_law_2201 hl.1 rfl rfl (zroom (Nat.le_of_ble_eq_true rfl)) (fun x107 h108 H locs cells slots C9 S9 hf hq hn => ?_)
  refine lv_istore (lv' := [(7, .int x107), (6, .int x103), (0, .ref a0), (1, .ref a1), (2, .ref a2), (3, .ref a3), (4, .ref a4), (5, .int v5)]) hx hb dL_law_2204 hl (by decide) rfl (fun ls hl => ?_)
  refine lv_aload_n (x := a2) hx hb dL_law_2206 rfl (lv_at hl 4 rfl) ?_
  refine zr_cVI (As := []) (rest := []) hc hn hq (ci := 3) rfl ⟨rfl, hd_X4_thrown⟩ (lw_V q2195 q2196 q2197 q91 q2198) (Nat.le_of_ble_eq_true rfl) (Nat.le_of_ble_eq_true rfl) (fun _ _ _ _ q => m_X4_thrown l D dA b0 gs h108 a2 q) hf dL_law_2207 hl.1 rfl rfl (zroom (Nat.le_of_ble_eq_true rfl)) (fun x109 h110 H locs cells slots C9 S9 hf hq hn => ?_)
  refine lv_iload hx hb dL_law_2210 (lv_at hl 1 rfl) ?_
  refine lv_icmp_eq (tgt := 2217) hx hb dL_law_2212 (by decide) (fun c9 => ?_) (fun c9 => ?_)
  · have hf := zif_t c9 hf
    refine lv_iload hx hb dL_law_2217 (lv_at hl 1 rfl) ?_
    refine lv_if_ne (tgt := 2234) hx hb dL_law_2219 (by decide) (fun c9 => ?_) (fun c9 => ?_)
    · have hf := zif_f c9 hf
      exact m_L_law_b2234 hc hr hin hl0 hZ k28 hk28 h110 a0 a1 a2 a3 a4 v5 _ _ _ _ _ _ hX hf hq hn _ (lv_sub hl [2, 3, 4, 5, 6, 7] rfl)
    · have hf := zif_t c9 hf
      refine lv_aload_n (x := a3) hx hb dL_law_2222 rfl (lv_at hl 5 rfl) ?_
      refine lv_iconst (v := (0 : Int32)) hx hb dL_law_2223 (by decide) ?_
      refine zr_aL hc hn hf dL_law_2224 (fun x111 hf => ?_)
      refine lv_iload hx hb dL_law_2225 (lv_at hl 0 rfl) ?_
      refine lv_i2l (v := x107.toInt64) hx hb dL_law_2227 rfl ?_
      refine zr_nmL hf (fun x112 hf => ?_)
      refine W.lcmp hx hb dL_law_2228 ?_
      refine zr_nmI hf (fun x113 hf => ?_)
      refine lv_if_eq (tgt := 2234) hx hb dL_law_2229 (by decide) (fun c9 => ?_) (fun c9 => ?_)
      · have hf := zif_t c9 hf
        exact m_L_law_b2234 hc hr hin hl0 hZ k28 hk28 h110 a0 a1 a2 a3 a4 v5 _ _ _ _ _ _ hX hf hq hn _ (lv_sub hl [2, 3, 4, 5, 6, 7] rfl)
      · have hf := zif_f c9 hf
        refine lv_iconst (v := (0 : Int32)) hx hb dL_law_2232 (by decide) ?_
        obtain ⟨rfl, rfl, rfl, rfl⟩ := zret_i hf
        obtain ⟨hq1, hq2⟩ := hq
        subst hq1
        subst hq2
        exact hZ _ _ _ _ dL_law_2233 hn
  · have hf := zif_f c9 hf
    refine lv_iconst (v := (0 : Int32)) hx hb dL_law_2215 (by decide) ?_
    obtain ⟨rfl, rfl, rfl, rfl⟩ := zret_i hf
    obtain ⟨hq1, hq2⟩ := hq
    subst hq1
    subst hq2
    exact hZ _ _ _ _ dL_law_2216 hn
set_option maxHeartbeats 4000000 in
set_option maxRecDepth 100000 in
theorem m_L_law_b2302 {p : Program} {l : Launch} {e : Env} {s : State} {m : MethodId} {args : Array Value} {below : List Frame} {meth : Method} {c : Code} {D : va_G} {dA : Nat → ClassId} {b0 : Nat} {gs : Nat → Option Nat} (hc : zC D dA b0 gs x.cls cL_law 9 p c s m args meth) (hr : meth.sig.returnType = ret) (hin : meth.name = x.name) {r : Int32} {hh : PH} {mc ms : Nat} {L : Nat} {xs : Nat → Int32} (hl0 : l.stackTraces = false) {Q : State → Prop} (hZ : ∀ (pc : Nat) (ls : Array Slot) (H : Heap) (locs : List Loc), decode cL_law pc = .ok (.ireturn, 1) → zM D dA b0 gs s hh H locs → W p l e ({ frames := 16, cells := mc, slots := ms, locals := 3214 } : Room) s m args below meth c H locs mc ms Q (F0 m pc ls [.int r])) (k28 : PH → Nat → Nat → Nat → Nat → Nat → Int32 → ZR Int32) (hk28 : ∀ (h : PH) (a0 : Nat) (a1 : Nat) (a2 : Nat) (a3 : Nat) (a4 : Nat) (v5 : Int32) (C9 S9 : Nat) (H : Heap) (locs : List Loc) (cells slots : Nat), va_X a0 L xs s s.heap ∧ a0 < b0 → k28 h a0 a1 a2 a3 a4 v5 = some (r, hh, C9, S9) → cells + C9 = mc ∧ slots + S9 = ms → zM D dA b0 gs s h H locs → ∀ ls : Array Slot, lv_has ls 9 [(0, .ref a0), (1, .ref a1), (2, .ref a2), (3, .ref a3), (4, .ref a4), (5, .int v5)] → W p l e ({ frames := 16, cells := mc, slots := ms, locals := 3214 } : Room) s m args below meth c H locs cells slots Q (F0 m 28 ls [])) : ∀ (h : PH) (a0 : Nat) (a1 : Nat) (a2 : Nat) (a3 : Nat) (a4 : Nat) (v5 : Int32) (C9 S9 : Nat) (H : Heap) (locs : List Loc) (cells slots : Nat), va_X a0 L xs s s.heap ∧ a0 < b0 → f_L_law_b2302 L xs k28 h a0 a1 a2 a3 a4 v5 = some (r, hh, C9, S9) → cells + C9 = mc ∧ slots + S9 = ms → zM D dA b0 gs s h H locs → ∀ ls : Array Slot, lv_has ls 9 [(0, .ref a0), (1, .ref a1), (2, .ref a2), (3, .ref a3), (4, .ref a4), (5, .int v5)] → W p l e ({ frames := 16, cells := mc, slots := ms, locals := 3214 } : Room) s m args below meth c H locs cells slots Q (F0 m 2302 ls []) := by
  have hx := hc.x
  have hb := hc.b
  intro h a0 a1 a2 a3 a4 v5 C9 S9 H locs cells slots hX hf hq hn ls hl
  unfold f_L_law_b2302 at hf
  refine lv_goto (tgt := 3450) hx hb dL_law_2302 (by decide) ?_
  exact m_L_law_b3450 hc hr hin hl0 hZ k28 hk28 h a0 a1 a2 a3 a4 v5 _ _ _ _ _ _ hX hf hq hn _ (lv_sub hl [0, 1, 2, 3, 4, 5] rfl)
set_option maxHeartbeats 4000000 in
set_option maxRecDepth 100000 in
theorem m_L_law_b2237 {p : Program} {l : Launch} {e : Env} {s : State} {m : MethodId} {args : Array Value} {below : List Frame} {meth : Method} {c : Code} {D : va_G} {dA : Nat → ClassId} {b0 : Nat} {gs : Nat → Option Nat} (hc : zC D dA b0 gs x.cls cL_law 9 p c s m args meth) (hr : meth.sig.returnType = ret) (hin : meth.name = x.name) {r : Int32} {hh : PH} {mc ms : Nat} {L : Nat} {xs : Nat → Int32} (hl0 : l.stackTraces = false) {Q : State → Prop} (hZ : ∀ (pc : Nat) (ls : Array Slot) (H : Heap) (locs : List Loc), decode cL_law pc = .ok (.ireturn, 1) → zM D dA b0 gs s hh H locs → W p l e ({ frames := 16, cells := mc, slots := ms, locals := 3214 } : Room) s m args below meth c H locs mc ms Q (F0 m pc ls [.int r])) (k28 : PH → Nat → Nat → Nat → Nat → Nat → Int32 → ZR Int32) (hk28 : ∀ (h : PH) (a0 : Nat) (a1 : Nat) (a2 : Nat) (a3 : Nat) (a4 : Nat) (v5 : Int32) (C9 S9 : Nat) (H : Heap) (locs : List Loc) (cells slots : Nat), va_X a0 L xs s s.heap ∧ a0 < b0 → k28 h a0 a1 a2 a3 a4 v5 = some (r, hh, C9, S9) → cells + C9 = mc ∧ slots + S9 = ms → zM D dA b0 gs s h H locs → ∀ ls : Array Slot, lv_has ls 9 [(0, .ref a0), (1, .ref a1), (2, .ref a2), (3, .ref a3), (4, .ref a4), (5, .int v5)] → W p l e ({ frames := 16, cells := mc, slots := ms, locals := 3214 } : Room) s m args below meth c H locs cells slots Q (F0 m 28 ls [])) : ∀ (h : PH) (a0 : Nat) (a1 : Nat) (a2 : Nat) (a3 : Nat) (a4 : Nat) (v5 : Int32) (C9 S9 : Nat) (H : Heap) (locs : List Loc) (cells slots : Nat), va_X a0 L xs s s.heap ∧ a0 < b0 → f_L_law_b2237 L xs k28 h a0 a1 a2 a3 a4 v5 = some (r, hh, C9, S9) → cells + C9 = mc ∧ slots + S9 = ms → zM D dA b0 gs s h H locs → ∀ ls : Array Slot, lv_has ls 9 [(0, .ref a0), (1, .ref a1), (2, .ref a2), (3, .ref a3), (4, .ref a4), (5, .int v5)] → W p l e ({ frames := 16, cells := mc, slots := ms, locals := 3214 } : Room) s m args below meth c H locs cells slots Q (F0 m 2237 ls []) := by
  have hx := hc.x
  have hb := hc.b
  intro h a0 a1 a2 a3 a4 v5 C9 S9 H locs cells slots hX hf hq hn ls hl
  unfold f_L_law_b2237 at hf
  refine lv_aload_n (x := a1) hx hb dL_law_2237 rfl (lv_at hl 1 rfl) ?_
  refine lv_aload_n (x := a0) hx hb dL_law_2238 rfl (lv_at hl 0 rfl) ?_
  refine lv_iload hx hb dL_law_2239 (lv_at hl 5 rfl) ?_
  refine lv_iconst (v := (1 : Int32)) hx hb dL_law_2241 (by decide) ?_
  refine lv_iadd hx hb dL_law_2242 ?_
  refine zr_nmI hf (fun x101 hf => ?_)
  refine zr_xld hc hn hX hf dL_law_2243 (fun x102 hf => ?_)
  refine lv_aload_n (x := a0) hx hb dL_law_2244 rfl (lv_at hl 0 rfl) ?_
  refine lv_iload hx hb dL_law_2245 (lv_at hl 5 rfl) ?_
  refine lv_iconst (v := (2 : Int32)) hx hb dL_law_2247 (by decide) ?_
  refine lv_iadd hx hb dL_law_2248 ?_
  refine zr_nmI hf (fun x103 hf => ?_)
  refine zr_xld hc hn hX hf dL_law_2249 (fun x104 hf => ?_)
  refine lv_aload_n (x := a3) hx hb dL_law_2250 rfl (lv_at hl 3 rfl) ?_
  refine zr_cSWI (As := [.ref a1, .int x102, .int x104, .ref a3]) (rest := []) hc hn hq hd_X0_whyNotJoin (lw_SW q1784 q1785 q83 q1786) (Nat.le_of_ble_eq_true rfl) (Nat.le_of_ble_eq_true rfl) (fun _ _ _ _ q => m_X0_whyNotJoin l hl0 D dA b0 gs h a1 x102 x104 a3 q) hf dL_law_2251 hl.1 rfl rfl (zroom (Nat.le_of_ble_eq_true rfl)) (fun x105 h106 H locs cells slots C9 S9 hf hq hn => ?_)
  refine lv_istore (lv' := [(6, .int x105), (0, .ref a0), (1, .ref a1), (2, .ref a2), (3, .ref a3), (4, .ref a4), (5, .int v5)]) hx hb dL_law_2254 hl (by decide) rfl (fun ls hl => ?_)
  refine lv_aload_n (x := a2) hx hb dL_law_2256 rfl (lv_at hl 3 rfl) ?_
  refine lv_aload_n (x := a0) hx hb dL_law_2257 rfl (lv_at hl 1 rfl) ?_
  refine lv_iload hx hb dL_law_2258 (lv_at hl 6 rfl) ?_
  refine lv_iconst (v := (1 : Int32)) hx hb dL_law_2260 (by decide) ?_
  refine lv_iadd hx hb dL_law_2261 ?_
  refine zr_nmI hf (fun x107 hf => ?_)
  refine zr_xld hc hn hX hf dL_law_2262 (fun x108 hf => ?_)
  refine lv_aload_n (x := a0) hx hb dL_law_2263 rfl (lv_at hl 1 rfl) ?_
  refine lv_iload hx hb dL_law_2264 (lv_at hl 6 rfl) ?_
  refine lv_iconst (v := (2 : Int32)) hx hb dL_law_2266 (by decide) ?_
  refine lv_iadd hx hb dL_law_2267 ?_
  refine zr_nmI hf (fun x109 hf => ?_)
  refine zr_xld hc hn hX hf dL_law_2268 (fun x110 hf => ?_)
  refine zr_cVI (As := [.int x108, .int x110]) (rest := []) hc hn hq (ci := 3) rfl ⟨rfl, hd_X4_whyNotJoin⟩ (lw_V q2513 q2514 q2515 q91 q2516) (Nat.le_of_ble_eq_true rfl) (Nat.le_of_ble_eq_true rfl) (fun _ _ _ _ q => m_X4_whyNotJoin l D dA b0 gs h106 a2 x108 x110 q) hf dL_law_2269 hl.1 rfl rfl (zroom (Nat.le_of_ble_eq_true rfl)) (fun x111 h112 H locs cells slots C9 S9 hf hq hn => ?_)
  refine lv_istore (lv' := [(7, .int x111), (6, .int x105), (0, .ref a0), (1, .ref a1), (2, .ref a2), (3, .ref a3), (4, .ref a4), (5, .int v5)]) hx hb dL_law_2272 hl (by decide) rfl (fun ls hl => ?_)
  refine lv_aload_n (x := a2) hx hb dL_law_2274 rfl (lv_at hl 4 rfl) ?_
  refine zr_cVI (As := []) (rest := []) hc hn hq (ci := 3) rfl ⟨rfl, hd_X4_thrown⟩ (lw_V q2195 q2196 q2197 q91 q2198) (Nat.le_of_ble_eq_true rfl) (Nat.le_of_ble_eq_true rfl) (fun _ _ _ _ q => m_X4_thrown l D dA b0 gs h112 a2 q) hf dL_law_2275 hl.1 rfl rfl (zroom (Nat.le_of_ble_eq_true rfl)) (fun x113 h114 H locs cells slots C9 S9 hf hq hn => ?_)
  refine lv_iload hx hb dL_law_2278 (lv_at hl 1 rfl) ?_
  refine lv_icmp_eq (tgt := 2285) hx hb dL_law_2280 (by decide) (fun c9 => ?_) (fun c9 => ?_)
  · have hf := zif_t c9 hf
    refine lv_iload hx hb dL_law_2285 (lv_at hl 1 rfl) ?_
    refine lv_if_ne (tgt := 2302) hx hb dL_law_2287 (by decide) (fun c9 => ?_) (fun c9 => ?_)
    · have hf := zif_f c9 hf
      exact m_L_law_b2302 hc hr hin hl0 hZ k28 hk28 h114 a0 a1 a2 a3 a4 v5 _ _ _ _ _ _ hX hf hq hn _ (lv_sub hl [2, 3, 4, 5, 6, 7] rfl)
    · have hf := zif_t c9 hf
      refine lv_aload_n (x := a3) hx hb dL_law_2290 rfl (lv_at hl 5 rfl) ?_
      refine lv_iconst (v := (0 : Int32)) hx hb dL_law_2291 (by decide) ?_
      refine zr_aL hc hn hf dL_law_2292 (fun x115 hf => ?_)
      refine lv_iload hx hb dL_law_2293 (lv_at hl 0 rfl) ?_
      refine lv_i2l (v := x111.toInt64) hx hb dL_law_2295 rfl ?_
      refine zr_nmL hf (fun x116 hf => ?_)
      refine W.lcmp hx hb dL_law_2296 ?_
      refine zr_nmI hf (fun x117 hf => ?_)
      refine lv_if_eq (tgt := 2302) hx hb dL_law_2297 (by decide) (fun c9 => ?_) (fun c9 => ?_)
      · have hf := zif_t c9 hf
        exact m_L_law_b2302 hc hr hin hl0 hZ k28 hk28 h114 a0 a1 a2 a3 a4 v5 _ _ _ _ _ _ hX hf hq hn _ (lv_sub hl [2, 3, 4, 5, 6, 7] rfl)
      · have hf := zif_f c9 hf
        refine lv_iconst (v := (0 : Int32)) hx hb dL_law_2300 (by decide) ?_
        obtain ⟨rfl, rfl, rfl, rfl⟩ := zret_i hf
        obtain ⟨hq1, hq2⟩ := hq
        subst hq1
        subst hq2
        exact hZ _ _ _ _ dL_law_2301 hn
  · have hf := zif_f c9 hf
    refine lv_iconst (v := (0 : Int32)) hx hb dL_law_2283 (by decide) ?_
    obtain ⟨rfl, rfl, rfl, rfl⟩ := zret_i hf
    obtain ⟨hq1, hq2⟩ := hq
    subst hq1
    subst hq2
    exact hZ _ _ _ _ dL_law_2284 hn
set_option maxHeartbeats 4000000 in
set_option maxRecDepth 100000 in
theorem m_L_law_b2370 {p : Program} {l : Launch} {e : Env} {s : State} {m : MethodId} {args : Array Value} {below : List Frame} {meth : Method} {c : Code} {D : va_G} {dA : Nat → ClassId} {b0 : Nat} {gs : Nat → Option Nat} (hc : zC D dA b0 gs x.cls cL_law 9 p c s m args meth) (hr : meth.sig.returnType = ret) (hin : meth.name = x.name) {r : Int32} {hh : PH} {mc ms : Nat} {L : Nat} {xs : Nat → Int32} (hl0 : l.stackTraces = false) {Q : State → Prop} (hZ : ∀ (pc : Nat) (ls : Array Slot) (H : Heap) (locs : List Loc), decode cL_law pc = .ok (.ireturn, 1) → zM D dA b0 gs s hh H locs → W p l e ({ frames := 16, cells := mc, slots := ms, locals := 3214 } : Room) s m args below meth c H locs mc ms Q (F0 m pc ls [.int r])) (k28 : PH → Nat → Nat → Nat → Nat → Nat → Int32 → ZR Int32) (hk28 : ∀ (h : PH) (a0 : Nat) (a1 : Nat) (a2 : Nat) (a3 : Nat) (a4 : Nat) (v5 : Int32) (C9 S9 : Nat) (H : Heap) (locs : List Loc) (cells slots : Nat), va_X a0 L xs s s.heap ∧ a0 < b0 → k28 h a0 a1 a2 a3 a4 v5 = some (r, hh, C9, S9) → cells + C9 = mc ∧ slots + S9 = ms → zM D dA b0 gs s h H locs → ∀ ls : Array Slot, lv_has ls 9 [(0, .ref a0), (1, .ref a1), (2, .ref a2), (3, .ref a3), (4, .ref a4), (5, .int v5)] → W p l e ({ frames := 16, cells := mc, slots := ms, locals := 3214 } : Room) s m args below meth c H locs cells slots Q (F0 m 28 ls [])) : ∀ (h : PH) (a0 : Nat) (a1 : Nat) (a2 : Nat) (a3 : Nat) (a4 : Nat) (v5 : Int32) (C9 S9 : Nat) (H : Heap) (locs : List Loc) (cells slots : Nat), va_X a0 L xs s s.heap ∧ a0 < b0 → f_L_law_b2370 L xs k28 h a0 a1 a2 a3 a4 v5 = some (r, hh, C9, S9) → cells + C9 = mc ∧ slots + S9 = ms → zM D dA b0 gs s h H locs → ∀ ls : Array Slot, lv_has ls 9 [(0, .ref a0), (1, .ref a1), (2, .ref a2), (3, .ref a3), (4, .ref a4), (5, .int v5)] → W p l e ({ frames := 16, cells := mc, slots := ms, locals := 3214 } : Room) s m args below meth c H locs cells slots Q (F0 m 2370 ls []) := by
  have hx := hc.x
  have hb := hc.b
  intro h a0 a1 a2 a3 a4 v5 C9 S9 H locs cells slots hX hf hq hn ls hl
  unfold f_L_law_b2370 at hf
  refine lv_goto (tgt := 3450) hx hb dL_law_2370 (by decide) ?_
  exact m_L_law_b3450 hc hr hin hl0 hZ k28 hk28 h a0 a1 a2 a3 a4 v5 _ _ _ _ _ _ hX hf hq hn _ (lv_sub hl [0, 1, 2, 3, 4, 5] rfl)
set_option maxHeartbeats 4000000 in
set_option maxRecDepth 100000 in
theorem m_L_law_b2305 {p : Program} {l : Launch} {e : Env} {s : State} {m : MethodId} {args : Array Value} {below : List Frame} {meth : Method} {c : Code} {D : va_G} {dA : Nat → ClassId} {b0 : Nat} {gs : Nat → Option Nat} (hc : zC D dA b0 gs x.cls cL_law 9 p c s m args meth) (hr : meth.sig.returnType = ret) (hin : meth.name = x.name) {r : Int32} {hh : PH} {mc ms : Nat} {L : Nat} {xs : Nat → Int32} (hl0 : l.stackTraces = false) {Q : State → Prop} (hZ : ∀ (pc : Nat) (ls : Array Slot) (H : Heap) (locs : List Loc), decode cL_law pc = .ok (.ireturn, 1) → zM D dA b0 gs s hh H locs → W p l e ({ frames := 16, cells := mc, slots := ms, locals := 3214 } : Room) s m args below meth c H locs mc ms Q (F0 m pc ls [.int r])) (k28 : PH → Nat → Nat → Nat → Nat → Nat → Int32 → ZR Int32) (hk28 : ∀ (h : PH) (a0 : Nat) (a1 : Nat) (a2 : Nat) (a3 : Nat) (a4 : Nat) (v5 : Int32) (C9 S9 : Nat) (H : Heap) (locs : List Loc) (cells slots : Nat), va_X a0 L xs s s.heap ∧ a0 < b0 → k28 h a0 a1 a2 a3 a4 v5 = some (r, hh, C9, S9) → cells + C9 = mc ∧ slots + S9 = ms → zM D dA b0 gs s h H locs → ∀ ls : Array Slot, lv_has ls 9 [(0, .ref a0), (1, .ref a1), (2, .ref a2), (3, .ref a3), (4, .ref a4), (5, .int v5)] → W p l e ({ frames := 16, cells := mc, slots := ms, locals := 3214 } : Room) s m args below meth c H locs cells slots Q (F0 m 28 ls [])) : ∀ (h : PH) (a0 : Nat) (a1 : Nat) (a2 : Nat) (a3 : Nat) (a4 : Nat) (v5 : Int32) (C9 S9 : Nat) (H : Heap) (locs : List Loc) (cells slots : Nat), va_X a0 L xs s s.heap ∧ a0 < b0 → f_L_law_b2305 L xs k28 h a0 a1 a2 a3 a4 v5 = some (r, hh, C9, S9) → cells + C9 = mc ∧ slots + S9 = ms → zM D dA b0 gs s h H locs → ∀ ls : Array Slot, lv_has ls 9 [(0, .ref a0), (1, .ref a1), (2, .ref a2), (3, .ref a3), (4, .ref a4), (5, .int v5)] → W p l e ({ frames := 16, cells := mc, slots := ms, locals := 3214 } : Room) s m args below meth c H locs cells slots Q (F0 m 2305 ls []) := by
  have hx := hc.x
  have hb := hc.b
  intro h a0 a1 a2 a3 a4 v5 C9 S9 H locs cells slots hX hf hq hn ls hl
  unfold f_L_law_b2305 at hf
  refine lv_aload_n (x := a1) hx hb dL_law_2305 rfl (lv_at hl 1 rfl) ?_
  refine lv_aload_n (x := a0) hx hb dL_law_2306 rfl (lv_at hl 0 rfl) ?_
  refine lv_iload hx hb dL_law_2307 (lv_at hl 5 rfl) ?_
  refine lv_iconst (v := (1 : Int32)) hx hb dL_law_2309 (by decide) ?_
  refine lv_iadd hx hb dL_law_2310 ?_
  refine zr_nmI hf (fun x101 hf => ?_)
  refine zr_xld hc hn hX hf dL_law_2311 (fun x102 hf => ?_)
  refine lv_aload_n (x := a0) hx hb dL_law_2312 rfl (lv_at hl 0 rfl) ?_
  refine lv_iload hx hb dL_law_2313 (lv_at hl 5 rfl) ?_
  refine lv_iconst (v := (2 : Int32)) hx hb dL_law_2315 (by decide) ?_
  refine lv_iadd hx hb dL_law_2316 ?_
  refine zr_nmI hf (fun x103 hf => ?_)
  refine zr_xld hc hn hX hf dL_law_2317 (fun x104 hf => ?_)
  refine lv_aload_n (x := a3) hx hb dL_law_2318 rfl (lv_at hl 3 rfl) ?_
  refine zr_cSWI (As := [.ref a1, .int x102, .int x104, .ref a3]) (rest := []) hc hn hq hd_X0_whyNotAbsorb (lw_SW q1795 q1796 q83 q1797) (Nat.le_of_ble_eq_true rfl) (Nat.le_of_ble_eq_true rfl) (fun _ _ _ _ q => m_X0_whyNotAbsorb l hl0 D dA b0 gs h a1 x102 x104 a3 q) hf dL_law_2319 hl.1 rfl rfl (zroom (Nat.le_of_ble_eq_true rfl)) (fun x105 h106 H locs cells slots C9 S9 hf hq hn => ?_)
  refine lv_istore (lv' := [(6, .int x105), (0, .ref a0), (1, .ref a1), (2, .ref a2), (3, .ref a3), (4, .ref a4), (5, .int v5)]) hx hb dL_law_2322 hl (by decide) rfl (fun ls hl => ?_)
  refine lv_aload_n (x := a2) hx hb dL_law_2324 rfl (lv_at hl 3 rfl) ?_
  refine lv_aload_n (x := a0) hx hb dL_law_2325 rfl (lv_at hl 1 rfl) ?_
  refine lv_iload hx hb dL_law_2326 (lv_at hl 6 rfl) ?_
  refine lv_iconst (v := (1 : Int32)) hx hb dL_law_2328 (by decide) ?_
  refine lv_iadd hx hb dL_law_2329 ?_
  refine zr_nmI hf (fun x107 hf => ?_)
  refine zr_xld hc hn hX hf dL_law_2330 (fun x108 hf => ?_)
  refine lv_aload_n (x := a0) hx hb dL_law_2331 rfl (lv_at hl 1 rfl) ?_
  refine lv_iload hx hb dL_law_2332 (lv_at hl 6 rfl) ?_
  refine lv_iconst (v := (2 : Int32)) hx hb dL_law_2334 (by decide) ?_
  refine lv_iadd hx hb dL_law_2335 ?_
  refine zr_nmI hf (fun x109 hf => ?_)
  refine zr_xld hc hn hX hf dL_law_2336 (fun x110 hf => ?_)
  refine zr_cVI (As := [.int x108, .int x110]) (rest := []) hc hn hq (ci := 3) rfl ⟨rfl, hd_X4_whyNotAbsorb⟩ (lw_V q2525 q2526 q2527 q91 q2528) (Nat.le_of_ble_eq_true rfl) (Nat.le_of_ble_eq_true rfl) (fun _ _ _ _ q => m_X4_whyNotAbsorb l D dA b0 gs h106 a2 x108 x110 q) hf dL_law_2337 hl.1 rfl rfl (zroom (Nat.le_of_ble_eq_true rfl)) (fun x111 h112 H locs cells slots C9 S9 hf hq hn => ?_)
  refine lv_istore (lv' := [(7, .int x111), (6, .int x105), (0, .ref a0), (1, .ref a1), (2, .ref a2), (3, .ref a3), (4, .ref a4), (5, .int v5)]) hx hb dL_law_2340 hl (by decide) rfl (fun ls hl => ?_)
  refine lv_aload_n (x := a2) hx hb dL_law_2342 rfl (lv_at hl 4 rfl) ?_
  refine zr_cVI (As := []) (rest := []) hc hn hq (ci := 3) rfl ⟨rfl, hd_X4_thrown⟩ (lw_V q2195 q2196 q2197 q91 q2198) (Nat.le_of_ble_eq_true rfl) (Nat.le_of_ble_eq_true rfl) (fun _ _ _ _ q => m_X4_thrown l D dA b0 gs h112 a2 q) hf dL_law_2343 hl.1 rfl rfl (zroom (Nat.le_of_ble_eq_true rfl)) (fun x113 h114 H locs cells slots C9 S9 hf hq hn => ?_)
  refine lv_iload hx hb dL_law_2346 (lv_at hl 1 rfl) ?_
  refine lv_icmp_eq (tgt := 2353) hx hb dL_law_2348 (by decide) (fun c9 => ?_) (fun c9 => ?_)
  · have hf := zif_t c9 hf
    refine lv_iload hx hb dL_law_2353 (lv_at hl 1 rfl) ?_
    refine lv_if_ne (tgt := 2370) hx hb dL_law_2355 (by decide) (fun c9 => ?_) (fun c9 => ?_)
    · have hf := zif_f c9 hf
      exact m_L_law_b2370 hc hr hin hl0 hZ k28 hk28 h114 a0 a1 a2 a3 a4 v5 _ _ _ _ _ _ hX hf hq hn _ (lv_sub hl [2, 3, 4, 5, 6, 7] rfl)
    · have hf := zif_t c9 hf
      refine lv_aload_n (x := a3) hx hb dL_law_2358 rfl (lv_at hl 5 rfl) ?_
      refine lv_iconst (v := (0 : Int32)) hx hb dL_law_2359 (by decide) ?_
      refine zr_aL hc hn hf dL_law_2360 (fun x115 hf => ?_)
      refine lv_iload hx hb dL_law_2361 (lv_at hl 0 rfl) ?_
      refine lv_i2l (v := x111.toInt64) hx hb dL_law_2363 rfl ?_
      refine zr_nmL hf (fun x116 hf => ?_)
      refine W.lcmp hx hb dL_law_2364 ?_
      refine zr_nmI hf (fun x117 hf => ?_)
      refine lv_if_eq (tgt := 2370) hx hb dL_law_2365 (by decide) (fun c9 => ?_) (fun c9 => ?_)
      · have hf := zif_t c9 hf
        exact m_L_law_b2370 hc hr hin hl0 hZ k28 hk28 h114 a0 a1 a2 a3 a4 v5 _ _ _ _ _ _ hX hf hq hn _ (lv_sub hl [2, 3, 4, 5, 6, 7] rfl)
      · have hf := zif_f c9 hf
        refine lv_iconst (v := (0 : Int32)) hx hb dL_law_2368 (by decide) ?_
        obtain ⟨rfl, rfl, rfl, rfl⟩ := zret_i hf
        obtain ⟨hq1, hq2⟩ := hq
        subst hq1
        subst hq2
        exact hZ _ _ _ _ dL_law_2369 hn
  · have hf := zif_f c9 hf
    refine lv_iconst (v := (0 : Int32)) hx hb dL_law_2351 (by decide) ?_
    obtain ⟨rfl, rfl, rfl, rfl⟩ := zret_i hf
    obtain ⟨hq1, hq2⟩ := hq
    subst hq1
    subst hq2
    exact hZ _ _ _ _ dL_law_2352 hn
set_option maxHeartbeats 4000000 in
set_option maxRecDepth 100000 in
theorem m_L_law_b2373 {p : Program} {l : Launch} {e : Env} {s : State} {m : MethodId} {args : Array Value} {below : List Frame} {meth : Method} {c : Code} {D : va_G} {dA : Nat → ClassId} {b0 : Nat} {gs : Nat → Option Nat} (hc : zC D dA b0 gs x.cls cL_law 9 p c s m args meth) (hr : meth.sig.returnType = ret) (hin : meth.name = x.name) {r : Int32} {hh : PH} {mc ms : Nat} {L : Nat} {xs : Nat → Int32} (hl0 : l.stackTraces = false) {Q : State → Prop} (hZ : ∀ (pc : Nat) (ls : Array Slot) (H : Heap) (locs : List Loc), decode cL_law pc = .ok (.ireturn, 1) → zM D dA b0 gs s hh H locs → W p l e ({ frames := 16, cells := mc, slots := ms, locals := 3214 } : Room) s m args below meth c H locs mc ms Q (F0 m pc ls [.int r])) (k28 : PH → Nat → Nat → Nat → Nat → Nat → Int32 → ZR Int32) (hk28 : ∀ (h : PH) (a0 : Nat) (a1 : Nat) (a2 : Nat) (a3 : Nat) (a4 : Nat) (v5 : Int32) (C9 S9 : Nat) (H : Heap) (locs : List Loc) (cells slots : Nat), va_X a0 L xs s s.heap ∧ a0 < b0 → k28 h a0 a1 a2 a3 a4 v5 = some (r, hh, C9, S9) → cells + C9 = mc ∧ slots + S9 = ms → zM D dA b0 gs s h H locs → ∀ ls : Array Slot, lv_has ls 9 [(0, .ref a0), (1, .ref a1), (2, .ref a2), (3, .ref a3), (4, .ref a4), (5, .int v5)] → W p l e ({ frames := 16, cells := mc, slots := ms, locals := 3214 } : Room) s m args below meth c H locs cells slots Q (F0 m 28 ls [])) : ∀ (h : PH) (a0 : Nat) (a1 : Nat) (a2 : Nat) (a3 : Nat) (a4 : Nat) (v5 : Int32) (C9 S9 : Nat) (H : Heap) (locs : List Loc) (cells slots : Nat), va_X a0 L xs s s.heap ∧ a0 < b0 → f_L_law_b2373 L xs k28 h a0 a1 a2 a3 a4 v5 = some (r, hh, C9, S9) → cells + C9 = mc ∧ slots + S9 = ms → zM D dA b0 gs s h H locs → ∀ ls : Array Slot, lv_has ls 9 [(0, .ref a0), (1, .ref a1), (2, .ref a2), (3, .ref a3), (4, .ref a4), (5, .int v5)] → W p l e ({ frames := 16, cells := mc, slots := ms, locals := 3214 } : Room) s m args below meth c H locs cells slots Q (F0 m 2373 ls []) := by
  have hx := hc.x
  have hb := hc.b
  intro h a0 a1 a2 a3 a4 v5 C9 S9 H locs cells slots hX hf hq hn ls hl
  unfold f_L_law_b2373 at hf
  refine lv_aload_n (x := a1) hx hb dL_law_2373 rfl (lv_at hl 1 rfl) ?_
  refine zr_cVI (As := []) (rest := []) hc hn hq (ci := 0) rfl ⟨rfl, hd_X1_logSize⟩ (lw_V q266 q267 q268 q84 q269) (Nat.le_of_ble_eq_true rfl) (Nat.le_of_ble_eq_true rfl) (fun _ _ _ _ q => m_X1_logSize l D dA b0 gs h a1 q) hf dL_law_2374 hl.1 rfl rfl (zroom (Nat.le_of_ble_eq_true rfl)) (fun x101 h102 H locs cells slots C9 S9 hf hq hn => ?_)
  refine lv_aload_n (x := a2) hx hb dL_law_2377 rfl (lv_at hl 2 rfl) ?_
  refine zr_cVI (As := []) (rest := [.int x101]) hc hn hq (ci := 3) rfl ⟨rfl, hd_X4_logSize⟩ (lw_V q2533 q2534 q2535 q91 q2536) (Nat.le_of_ble_eq_true rfl) (Nat.le_of_ble_eq_true rfl) (fun _ _ _ _ q => m_X4_logSize l D dA b0 gs h102 a2 q) hf dL_law_2378 hl.1 rfl rfl (zroom (Nat.le_of_ble_eq_true rfl)) (fun x103 h104 H locs cells slots C9 S9 hf hq hn => ?_)
  refine lv_icmp_eq (tgt := 3450) hx hb dL_law_2381 (by decide) (fun c9 => ?_) (fun c9 => ?_)
  · have hf := zif_t c9 hf
    exact m_L_law_b3450 hc hr hin hl0 hZ k28 hk28 h104 a0 a1 a2 a3 a4 v5 _ _ _ _ _ _ hX hf hq hn _ (lv_sub hl [0, 1, 2, 3, 4, 5] rfl)
  · have hf := zif_f c9 hf
    refine lv_iconst (v := (0 : Int32)) hx hb dL_law_2384 (by decide) ?_
    obtain ⟨rfl, rfl, rfl, rfl⟩ := zret_i hf
    obtain ⟨hq1, hq2⟩ := hq
    subst hq1
    subst hq2
    exact hZ _ _ _ _ dL_law_2385 hn
set_option maxHeartbeats 4000000 in
set_option maxRecDepth 100000 in
theorem m_L_law_b2439 {p : Program} {l : Launch} {e : Env} {s : State} {m : MethodId} {args : Array Value} {below : List Frame} {meth : Method} {c : Code} {D : va_G} {dA : Nat → ClassId} {b0 : Nat} {gs : Nat → Option Nat} (hc : zC D dA b0 gs x.cls cL_law 9 p c s m args meth) (hr : meth.sig.returnType = ret) (hin : meth.name = x.name) {r : Int32} {hh : PH} {mc ms : Nat} {L : Nat} {xs : Nat → Int32} (hl0 : l.stackTraces = false) {Q : State → Prop} (hZ : ∀ (pc : Nat) (ls : Array Slot) (H : Heap) (locs : List Loc), decode cL_law pc = .ok (.ireturn, 1) → zM D dA b0 gs s hh H locs → W p l e ({ frames := 16, cells := mc, slots := ms, locals := 3214 } : Room) s m args below meth c H locs mc ms Q (F0 m pc ls [.int r])) (k28 : PH → Nat → Nat → Nat → Nat → Nat → Int32 → ZR Int32) (hk28 : ∀ (h : PH) (a0 : Nat) (a1 : Nat) (a2 : Nat) (a3 : Nat) (a4 : Nat) (v5 : Int32) (C9 S9 : Nat) (H : Heap) (locs : List Loc) (cells slots : Nat), va_X a0 L xs s s.heap ∧ a0 < b0 → k28 h a0 a1 a2 a3 a4 v5 = some (r, hh, C9, S9) → cells + C9 = mc ∧ slots + S9 = ms → zM D dA b0 gs s h H locs → ∀ ls : Array Slot, lv_has ls 9 [(0, .ref a0), (1, .ref a1), (2, .ref a2), (3, .ref a3), (4, .ref a4), (5, .int v5)] → W p l e ({ frames := 16, cells := mc, slots := ms, locals := 3214 } : Room) s m args below meth c H locs cells slots Q (F0 m 28 ls [])) : ∀ (h : PH) (a0 : Nat) (a1 : Nat) (a2 : Nat) (a3 : Nat) (a4 : Nat) (v5 : Int32) (C9 S9 : Nat) (H : Heap) (locs : List Loc) (cells slots : Nat), va_X a0 L xs s s.heap ∧ a0 < b0 → f_L_law_b2439 L xs k28 h a0 a1 a2 a3 a4 v5 = some (r, hh, C9, S9) → cells + C9 = mc ∧ slots + S9 = ms → zM D dA b0 gs s h H locs → ∀ ls : Array Slot, lv_has ls 9 [(0, .ref a0), (1, .ref a1), (2, .ref a2), (3, .ref a3), (4, .ref a4), (5, .int v5)] → W p l e ({ frames := 16, cells := mc, slots := ms, locals := 3214 } : Room) s m args below meth c H locs cells slots Q (F0 m 2439 ls []) := by
  have hx := hc.x
  have hb := hc.b
  intro h a0 a1 a2 a3 a4 v5 C9 S9 H locs cells slots hX hf hq hn ls hl
  unfold f_L_law_b2439 at hf
  refine lv_goto (tgt := 3450) hx hb dL_law_2439 (by decide) ?_
  exact m_L_law_b3450 hc hr hin hl0 hZ k28 hk28 h a0 a1 a2 a3 a4 v5 _ _ _ _ _ _ hX hf hq hn _ (lv_sub hl [0, 1, 2, 3, 4, 5] rfl)
set_option maxHeartbeats 4000000 in
set_option maxRecDepth 100000 in
theorem m_L_law_b2386 {p : Program} {l : Launch} {e : Env} {s : State} {m : MethodId} {args : Array Value} {below : List Frame} {meth : Method} {c : Code} {D : va_G} {dA : Nat → ClassId} {b0 : Nat} {gs : Nat → Option Nat} (hc : zC D dA b0 gs x.cls cL_law 9 p c s m args meth) (hr : meth.sig.returnType = ret) (hin : meth.name = x.name) {r : Int32} {hh : PH} {mc ms : Nat} {L : Nat} {xs : Nat → Int32} (hl0 : l.stackTraces = false) {Q : State → Prop} (hZ : ∀ (pc : Nat) (ls : Array Slot) (H : Heap) (locs : List Loc), decode cL_law pc = .ok (.ireturn, 1) → zM D dA b0 gs s hh H locs → W p l e ({ frames := 16, cells := mc, slots := ms, locals := 3214 } : Room) s m args below meth c H locs mc ms Q (F0 m pc ls [.int r])) (k28 : PH → Nat → Nat → Nat → Nat → Nat → Int32 → ZR Int32) (hk28 : ∀ (h : PH) (a0 : Nat) (a1 : Nat) (a2 : Nat) (a3 : Nat) (a4 : Nat) (v5 : Int32) (C9 S9 : Nat) (H : Heap) (locs : List Loc) (cells slots : Nat), va_X a0 L xs s s.heap ∧ a0 < b0 → k28 h a0 a1 a2 a3 a4 v5 = some (r, hh, C9, S9) → cells + C9 = mc ∧ slots + S9 = ms → zM D dA b0 gs s h H locs → ∀ ls : Array Slot, lv_has ls 9 [(0, .ref a0), (1, .ref a1), (2, .ref a2), (3, .ref a3), (4, .ref a4), (5, .int v5)] → W p l e ({ frames := 16, cells := mc, slots := ms, locals := 3214 } : Room) s m args below meth c H locs cells slots Q (F0 m 28 ls [])) : ∀ (h : PH) (a0 : Nat) (a1 : Nat) (a2 : Nat) (a3 : Nat) (a4 : Nat) (v5 : Int32) (C9 S9 : Nat) (H : Heap) (locs : List Loc) (cells slots : Nat), va_X a0 L xs s s.heap ∧ a0 < b0 → f_L_law_b2386 L xs k28 h a0 a1 a2 a3 a4 v5 = some (r, hh, C9, S9) → cells + C9 = mc ∧ slots + S9 = ms → zM D dA b0 gs s h H locs → ∀ ls : Array Slot, lv_has ls 9 [(0, .ref a0), (1, .ref a1), (2, .ref a2), (3, .ref a3), (4, .ref a4), (5, .int v5)] → W p l e ({ frames := 16, cells := mc, slots := ms, locals := 3214 } : Room) s m args below meth c H locs cells slots Q (F0 m 2386 ls []) := by
  have hx := hc.x
  have hb := hc.b
  intro h a0 a1 a2 a3 a4 v5 C9 S9 H locs cells slots hX hf hq hn ls hl
  unfold f_L_law_b2386 at hf
  refine lv_aload_n (x := a1) hx hb dL_law_2386 rfl (lv_at hl 1 rfl) ?_
  refine lv_aload_n (x := a0) hx hb dL_law_2387 rfl (lv_at hl 0 rfl) ?_
  refine lv_iload hx hb dL_law_2388 (lv_at hl 5 rfl) ?_
  refine lv_iconst (v := (1 : Int32)) hx hb dL_law_2390 (by decide) ?_
  refine lv_iadd hx hb dL_law_2391 ?_
  refine zr_nmI hf (fun x101 hf => ?_)
  refine zr_xld hc hn hX hf dL_law_2392 (fun x102 hf => ?_)
  refine lv_aload_n (x := a3) hx hb dL_law_2393 rfl (lv_at hl 3 rfl) ?_
  refine zr_cSWI (As := [.ref a1, .int x102, .ref a3]) (rest := []) hc hn hq hd_X0_logKind (lw_SW q1802 q1803 q83 q1804) (Nat.le_of_ble_eq_true rfl) (Nat.le_of_ble_eq_true rfl) (fun _ _ _ _ q => m_X0_logKind l hl0 D dA b0 gs h a1 x102 a3 q) hf dL_law_2394 hl.1 rfl rfl (zroom (Nat.le_of_ble_eq_true rfl)) (fun x103 h104 H locs cells slots C9 S9 hf hq hn => ?_)
  refine lv_istore (lv' := [(6, .int x103), (0, .ref a0), (1, .ref a1), (2, .ref a2), (3, .ref a3), (4, .ref a4), (5, .int v5)]) hx hb dL_law_2397 hl (by decide) rfl (fun ls hl => ?_)
  refine lv_aload_n (x := a2) hx hb dL_law_2399 rfl (lv_at hl 3 rfl) ?_
  refine lv_aload_n (x := a0) hx hb dL_law_2400 rfl (lv_at hl 1 rfl) ?_
  refine lv_iload hx hb dL_law_2401 (lv_at hl 6 rfl) ?_
  refine lv_iconst (v := (1 : Int32)) hx hb dL_law_2403 (by decide) ?_
  refine lv_iadd hx hb dL_law_2404 ?_
  refine zr_nmI hf (fun x105 hf => ?_)
  refine zr_xld hc hn hX hf dL_law_2405 (fun x106 hf => ?_)
  refine zr_cVI (As := [.int x106]) (rest := []) hc hn hq (ci := 3) rfl ⟨rfl, hd_X4_logKind⟩ (lw_V q2537 q2538 q2539 q91 q2540) (Nat.le_of_ble_eq_true rfl) (Nat.le_of_ble_eq_true rfl) (fun _ _ _ _ q => m_X4_logKind l D dA b0 gs h104 a2 x106 q) hf dL_law_2406 hl.1 rfl rfl (zroom (Nat.le_of_ble_eq_true rfl)) (fun x107 h108 H locs cells slots C9 S9 hf hq hn => ?_)
  refine lv_istore (lv' := [(7, .int x107), (6, .int x103), (0, .ref a0), (1, .ref a1), (2, .ref a2), (3, .ref a3), (4, .ref a4), (5, .int v5)]) hx hb dL_law_2409 hl (by decide) rfl (fun ls hl => ?_)
  refine lv_aload_n (x := a2) hx hb dL_law_2411 rfl (lv_at hl 4 rfl) ?_
  refine zr_cVI (As := []) (rest := []) hc hn hq (ci := 3) rfl ⟨rfl, hd_X4_thrown⟩ (lw_V q2195 q2196 q2197 q91 q2198) (Nat.le_of_ble_eq_true rfl) (Nat.le_of_ble_eq_true rfl) (fun _ _ _ _ q => m_X4_thrown l D dA b0 gs h108 a2 q) hf dL_law_2412 hl.1 rfl rfl (zroom (Nat.le_of_ble_eq_true rfl)) (fun x109 h110 H locs cells slots C9 S9 hf hq hn => ?_)
  refine lv_iload hx hb dL_law_2415 (lv_at hl 1 rfl) ?_
  refine lv_icmp_eq (tgt := 2422) hx hb dL_law_2417 (by decide) (fun c9 => ?_) (fun c9 => ?_)
  · have hf := zif_t c9 hf
    refine lv_iload hx hb dL_law_2422 (lv_at hl 1 rfl) ?_
    refine lv_if_ne (tgt := 2439) hx hb dL_law_2424 (by decide) (fun c9 => ?_) (fun c9 => ?_)
    · have hf := zif_f c9 hf
      exact m_L_law_b2439 hc hr hin hl0 hZ k28 hk28 h110 a0 a1 a2 a3 a4 v5 _ _ _ _ _ _ hX hf hq hn _ (lv_sub hl [2, 3, 4, 5, 6, 7] rfl)
    · have hf := zif_t c9 hf
      refine lv_aload_n (x := a3) hx hb dL_law_2427 rfl (lv_at hl 5 rfl) ?_
      refine lv_iconst (v := (0 : Int32)) hx hb dL_law_2428 (by decide) ?_
      refine zr_aL hc hn hf dL_law_2429 (fun x111 hf => ?_)
      refine lv_iload hx hb dL_law_2430 (lv_at hl 0 rfl) ?_
      refine lv_i2l (v := x107.toInt64) hx hb dL_law_2432 rfl ?_
      refine zr_nmL hf (fun x112 hf => ?_)
      refine W.lcmp hx hb dL_law_2433 ?_
      refine zr_nmI hf (fun x113 hf => ?_)
      refine lv_if_eq (tgt := 2439) hx hb dL_law_2434 (by decide) (fun c9 => ?_) (fun c9 => ?_)
      · have hf := zif_t c9 hf
        exact m_L_law_b2439 hc hr hin hl0 hZ k28 hk28 h110 a0 a1 a2 a3 a4 v5 _ _ _ _ _ _ hX hf hq hn _ (lv_sub hl [2, 3, 4, 5, 6, 7] rfl)
      · have hf := zif_f c9 hf
        refine lv_iconst (v := (0 : Int32)) hx hb dL_law_2437 (by decide) ?_
        obtain ⟨rfl, rfl, rfl, rfl⟩ := zret_i hf
        obtain ⟨hq1, hq2⟩ := hq
        subst hq1
        subst hq2
        exact hZ _ _ _ _ dL_law_2438 hn
  · have hf := zif_f c9 hf
    refine lv_iconst (v := (0 : Int32)) hx hb dL_law_2420 (by decide) ?_
    obtain ⟨rfl, rfl, rfl, rfl⟩ := zret_i hf
    obtain ⟨hq1, hq2⟩ := hq
    subst hq1
    subst hq2
    exact hZ _ _ _ _ dL_law_2421 hn
set_option maxHeartbeats 4000000 in
set_option maxRecDepth 100000 in
theorem m_L_law_b2495 {p : Program} {l : Launch} {e : Env} {s : State} {m : MethodId} {args : Array Value} {below : List Frame} {meth : Method} {c : Code} {D : va_G} {dA : Nat → ClassId} {b0 : Nat} {gs : Nat → Option Nat} (hc : zC D dA b0 gs x.cls cL_law 9 p c s m args meth) (hr : meth.sig.returnType = ret) (hin : meth.name = x.name) {r : Int32} {hh : PH} {mc ms : Nat} {L : Nat} {xs : Nat → Int32} (hl0 : l.stackTraces = false) {Q : State → Prop} (hZ : ∀ (pc : Nat) (ls : Array Slot) (H : Heap) (locs : List Loc), decode cL_law pc = .ok (.ireturn, 1) → zM D dA b0 gs s hh H locs → W p l e ({ frames := 16, cells := mc, slots := ms, locals := 3214 } : Room) s m args below meth c H locs mc ms Q (F0 m pc ls [.int r])) (k28 : PH → Nat → Nat → Nat → Nat → Nat → Int32 → ZR Int32) (hk28 : ∀ (h : PH) (a0 : Nat) (a1 : Nat) (a2 : Nat) (a3 : Nat) (a4 : Nat) (v5 : Int32) (C9 S9 : Nat) (H : Heap) (locs : List Loc) (cells slots : Nat), va_X a0 L xs s s.heap ∧ a0 < b0 → k28 h a0 a1 a2 a3 a4 v5 = some (r, hh, C9, S9) → cells + C9 = mc ∧ slots + S9 = ms → zM D dA b0 gs s h H locs → ∀ ls : Array Slot, lv_has ls 9 [(0, .ref a0), (1, .ref a1), (2, .ref a2), (3, .ref a3), (4, .ref a4), (5, .int v5)] → W p l e ({ frames := 16, cells := mc, slots := ms, locals := 3214 } : Room) s m args below meth c H locs cells slots Q (F0 m 28 ls [])) : ∀ (h : PH) (a0 : Nat) (a1 : Nat) (a2 : Nat) (a3 : Nat) (a4 : Nat) (v5 : Int32) (C9 S9 : Nat) (H : Heap) (locs : List Loc) (cells slots : Nat), va_X a0 L xs s s.heap ∧ a0 < b0 → f_L_law_b2495 L xs k28 h a0 a1 a2 a3 a4 v5 = some (r, hh, C9, S9) → cells + C9 = mc ∧ slots + S9 = ms → zM D dA b0 gs s h H locs → ∀ ls : Array Slot, lv_has ls 9 [(0, .ref a0), (1, .ref a1), (2, .ref a2), (3, .ref a3), (4, .ref a4), (5, .int v5)] → W p l e ({ frames := 16, cells := mc, slots := ms, locals := 3214 } : Room) s m args below meth c H locs cells slots Q (F0 m 2495 ls []) := by
  have hx := hc.x
  have hb := hc.b
  intro h a0 a1 a2 a3 a4 v5 C9 S9 H locs cells slots hX hf hq hn ls hl
  unfold f_L_law_b2495 at hf
  refine lv_goto (tgt := 3450) hx hb dL_law_2495 (by decide) ?_
  exact m_L_law_b3450 hc hr hin hl0 hZ k28 hk28 h a0 a1 a2 a3 a4 v5 _ _ _ _ _ _ hX hf hq hn _ (lv_sub hl [0, 1, 2, 3, 4, 5] rfl)
set_option maxHeartbeats 4000000 in
set_option maxRecDepth 100000 in
theorem m_L_law_b2442 {p : Program} {l : Launch} {e : Env} {s : State} {m : MethodId} {args : Array Value} {below : List Frame} {meth : Method} {c : Code} {D : va_G} {dA : Nat → ClassId} {b0 : Nat} {gs : Nat → Option Nat} (hc : zC D dA b0 gs x.cls cL_law 9 p c s m args meth) (hr : meth.sig.returnType = ret) (hin : meth.name = x.name) {r : Int32} {hh : PH} {mc ms : Nat} {L : Nat} {xs : Nat → Int32} (hl0 : l.stackTraces = false) {Q : State → Prop} (hZ : ∀ (pc : Nat) (ls : Array Slot) (H : Heap) (locs : List Loc), decode cL_law pc = .ok (.ireturn, 1) → zM D dA b0 gs s hh H locs → W p l e ({ frames := 16, cells := mc, slots := ms, locals := 3214 } : Room) s m args below meth c H locs mc ms Q (F0 m pc ls [.int r])) (k28 : PH → Nat → Nat → Nat → Nat → Nat → Int32 → ZR Int32) (hk28 : ∀ (h : PH) (a0 : Nat) (a1 : Nat) (a2 : Nat) (a3 : Nat) (a4 : Nat) (v5 : Int32) (C9 S9 : Nat) (H : Heap) (locs : List Loc) (cells slots : Nat), va_X a0 L xs s s.heap ∧ a0 < b0 → k28 h a0 a1 a2 a3 a4 v5 = some (r, hh, C9, S9) → cells + C9 = mc ∧ slots + S9 = ms → zM D dA b0 gs s h H locs → ∀ ls : Array Slot, lv_has ls 9 [(0, .ref a0), (1, .ref a1), (2, .ref a2), (3, .ref a3), (4, .ref a4), (5, .int v5)] → W p l e ({ frames := 16, cells := mc, slots := ms, locals := 3214 } : Room) s m args below meth c H locs cells slots Q (F0 m 28 ls [])) : ∀ (h : PH) (a0 : Nat) (a1 : Nat) (a2 : Nat) (a3 : Nat) (a4 : Nat) (v5 : Int32) (C9 S9 : Nat) (H : Heap) (locs : List Loc) (cells slots : Nat), va_X a0 L xs s s.heap ∧ a0 < b0 → f_L_law_b2442 L xs k28 h a0 a1 a2 a3 a4 v5 = some (r, hh, C9, S9) → cells + C9 = mc ∧ slots + S9 = ms → zM D dA b0 gs s h H locs → ∀ ls : Array Slot, lv_has ls 9 [(0, .ref a0), (1, .ref a1), (2, .ref a2), (3, .ref a3), (4, .ref a4), (5, .int v5)] → W p l e ({ frames := 16, cells := mc, slots := ms, locals := 3214 } : Room) s m args below meth c H locs cells slots Q (F0 m 2442 ls []) := by
  have hx := hc.x
  have hb := hc.b
  intro h a0 a1 a2 a3 a4 v5 C9 S9 H locs cells slots hX hf hq hn ls hl
  unfold f_L_law_b2442 at hf
  refine lv_aload_n (x := a1) hx hb dL_law_2442 rfl (lv_at hl 1 rfl) ?_
  refine lv_aload_n (x := a0) hx hb dL_law_2443 rfl (lv_at hl 0 rfl) ?_
  refine lv_iload hx hb dL_law_2444 (lv_at hl 5 rfl) ?_
  refine lv_iconst (v := (1 : Int32)) hx hb dL_law_2446 (by decide) ?_
  refine lv_iadd hx hb dL_law_2447 ?_
  refine zr_nmI hf (fun x101 hf => ?_)
  refine zr_xld hc hn hX hf dL_law_2448 (fun x102 hf => ?_)
  refine lv_aload_n (x := a3) hx hb dL_law_2449 rfl (lv_at hl 3 rfl) ?_
  refine zr_cSWI (As := [.ref a1, .int x102, .ref a3]) (rest := []) hc hn hq hd_X0_logLevel (lw_SW q1841 q1842 q83 q1843) (Nat.le_of_ble_eq_true rfl) (Nat.le_of_ble_eq_true rfl) (fun _ _ _ _ q => m_X0_logLevel l hl0 D dA b0 gs h a1 x102 a3 q) hf dL_law_2450 hl.1 rfl rfl (zroom (Nat.le_of_ble_eq_true rfl)) (fun x103 h104 H locs cells slots C9 S9 hf hq hn => ?_)
  refine lv_istore (lv' := [(6, .int x103), (0, .ref a0), (1, .ref a1), (2, .ref a2), (3, .ref a3), (4, .ref a4), (5, .int v5)]) hx hb dL_law_2453 hl (by decide) rfl (fun ls hl => ?_)
  refine lv_aload_n (x := a2) hx hb dL_law_2455 rfl (lv_at hl 3 rfl) ?_
  refine lv_aload_n (x := a0) hx hb dL_law_2456 rfl (lv_at hl 1 rfl) ?_
  refine lv_iload hx hb dL_law_2457 (lv_at hl 6 rfl) ?_
  refine lv_iconst (v := (1 : Int32)) hx hb dL_law_2459 (by decide) ?_
  refine lv_iadd hx hb dL_law_2460 ?_
  refine zr_nmI hf (fun x105 hf => ?_)
  refine zr_xld hc hn hX hf dL_law_2461 (fun x106 hf => ?_)
  refine zr_cVI (As := [.int x106]) (rest := []) hc hn hq (ci := 3) rfl ⟨rfl, hd_X4_logLevel⟩ (lw_V q2545 q2546 q2547 q91 q2548) (Nat.le_of_ble_eq_true rfl) (Nat.le_of_ble_eq_true rfl) (fun _ _ _ _ q => m_X4_logLevel l D dA b0 gs h104 a2 x106 q) hf dL_law_2462 hl.1 rfl rfl (zroom (Nat.le_of_ble_eq_true rfl)) (fun x107 h108 H locs cells slots C9 S9 hf hq hn => ?_)
  refine lv_istore (lv' := [(7, .int x107), (6, .int x103), (0, .ref a0), (1, .ref a1), (2, .ref a2), (3, .ref a3), (4, .ref a4), (5, .int v5)]) hx hb dL_law_2465 hl (by decide) rfl (fun ls hl => ?_)
  refine lv_aload_n (x := a2) hx hb dL_law_2467 rfl (lv_at hl 4 rfl) ?_
  refine zr_cVI (As := []) (rest := []) hc hn hq (ci := 3) rfl ⟨rfl, hd_X4_thrown⟩ (lw_V q2195 q2196 q2197 q91 q2198) (Nat.le_of_ble_eq_true rfl) (Nat.le_of_ble_eq_true rfl) (fun _ _ _ _ q => m_X4_thrown l D dA b0 gs h108 a2 q) hf dL_law_2468 hl.1 rfl rfl (zroom (Nat.le_of_ble_eq_true rfl)) (fun x109 h110 H locs cells slots C9 S9 hf hq hn => ?_)
  refine lv_iload hx hb dL_law_2471 (lv_at hl 1 rfl) ?_
  refine lv_icmp_eq (tgt := 2478) hx hb dL_law_2473 (by decide) (fun c9 => ?_) (fun c9 => ?_)
  · have hf := zif_t c9 hf
    refine lv_iload hx hb dL_law_2478 (lv_at hl 1 rfl) ?_
    refine lv_if_ne (tgt := 2495) hx hb dL_law_2480 (by decide) (fun c9 => ?_) (fun c9 => ?_)
    · have hf := zif_f c9 hf
      exact m_L_law_b2495 hc hr hin hl0 hZ k28 hk28 h110 a0 a1 a2 a3 a4 v5 _ _ _ _ _ _ hX hf hq hn _ (lv_sub hl [2, 3, 4, 5, 6, 7] rfl)
    · have hf := zif_t c9 hf
      refine lv_aload_n (x := a3) hx hb dL_law_2483 rfl (lv_at hl 5 rfl) ?_
      refine lv_iconst (v := (0 : Int32)) hx hb dL_law_2484 (by decide) ?_
      refine zr_aL hc hn hf dL_law_2485 (fun x111 hf => ?_)
      refine lv_iload hx hb dL_law_2486 (lv_at hl 0 rfl) ?_
      refine lv_i2l (v := x107.toInt64) hx hb dL_law_2488 rfl ?_
      refine zr_nmL hf (fun x112 hf => ?_)
      refine W.lcmp hx hb dL_law_2489 ?_
      refine zr_nmI hf (fun x113 hf => ?_)
      refine lv_if_eq (tgt := 2495) hx hb dL_law_2490 (by decide) (fun c9 => ?_) (fun c9 => ?_)
      · have hf := zif_t c9 hf
        exact m_L_law_b2495 hc hr hin hl0 hZ k28 hk28 h110 a0 a1 a2 a3 a4 v5 _ _ _ _ _ _ hX hf hq hn _ (lv_sub hl [2, 3, 4, 5, 6, 7] rfl)
      · have hf := zif_f c9 hf
        refine lv_iconst (v := (0 : Int32)) hx hb dL_law_2493 (by decide) ?_
        obtain ⟨rfl, rfl, rfl, rfl⟩ := zret_i hf
        obtain ⟨hq1, hq2⟩ := hq
        subst hq1
        subst hq2
        exact hZ _ _ _ _ dL_law_2494 hn
  · have hf := zif_f c9 hf
    refine lv_iconst (v := (0 : Int32)) hx hb dL_law_2476 (by decide) ?_
    obtain ⟨rfl, rfl, rfl, rfl⟩ := zret_i hf
    obtain ⟨hq1, hq2⟩ := hq
    subst hq1
    subst hq2
    exact hZ _ _ _ _ dL_law_2477 hn
set_option maxHeartbeats 4000000 in
set_option maxRecDepth 100000 in
theorem m_L_law_b2551 {p : Program} {l : Launch} {e : Env} {s : State} {m : MethodId} {args : Array Value} {below : List Frame} {meth : Method} {c : Code} {D : va_G} {dA : Nat → ClassId} {b0 : Nat} {gs : Nat → Option Nat} (hc : zC D dA b0 gs x.cls cL_law 9 p c s m args meth) (hr : meth.sig.returnType = ret) (hin : meth.name = x.name) {r : Int32} {hh : PH} {mc ms : Nat} {L : Nat} {xs : Nat → Int32} (hl0 : l.stackTraces = false) {Q : State → Prop} (hZ : ∀ (pc : Nat) (ls : Array Slot) (H : Heap) (locs : List Loc), decode cL_law pc = .ok (.ireturn, 1) → zM D dA b0 gs s hh H locs → W p l e ({ frames := 16, cells := mc, slots := ms, locals := 3214 } : Room) s m args below meth c H locs mc ms Q (F0 m pc ls [.int r])) (k28 : PH → Nat → Nat → Nat → Nat → Nat → Int32 → ZR Int32) (hk28 : ∀ (h : PH) (a0 : Nat) (a1 : Nat) (a2 : Nat) (a3 : Nat) (a4 : Nat) (v5 : Int32) (C9 S9 : Nat) (H : Heap) (locs : List Loc) (cells slots : Nat), va_X a0 L xs s s.heap ∧ a0 < b0 → k28 h a0 a1 a2 a3 a4 v5 = some (r, hh, C9, S9) → cells + C9 = mc ∧ slots + S9 = ms → zM D dA b0 gs s h H locs → ∀ ls : Array Slot, lv_has ls 9 [(0, .ref a0), (1, .ref a1), (2, .ref a2), (3, .ref a3), (4, .ref a4), (5, .int v5)] → W p l e ({ frames := 16, cells := mc, slots := ms, locals := 3214 } : Room) s m args below meth c H locs cells slots Q (F0 m 28 ls [])) : ∀ (h : PH) (a0 : Nat) (a1 : Nat) (a2 : Nat) (a3 : Nat) (a4 : Nat) (v5 : Int32) (C9 S9 : Nat) (H : Heap) (locs : List Loc) (cells slots : Nat), va_X a0 L xs s s.heap ∧ a0 < b0 → f_L_law_b2551 L xs k28 h a0 a1 a2 a3 a4 v5 = some (r, hh, C9, S9) → cells + C9 = mc ∧ slots + S9 = ms → zM D dA b0 gs s h H locs → ∀ ls : Array Slot, lv_has ls 9 [(0, .ref a0), (1, .ref a1), (2, .ref a2), (3, .ref a3), (4, .ref a4), (5, .int v5)] → W p l e ({ frames := 16, cells := mc, slots := ms, locals := 3214 } : Room) s m args below meth c H locs cells slots Q (F0 m 2551 ls []) := by
  have hx := hc.x
  have hb := hc.b
  intro h a0 a1 a2 a3 a4 v5 C9 S9 H locs cells slots hX hf hq hn ls hl
  unfold f_L_law_b2551 at hf
  refine lv_goto (tgt := 3450) hx hb dL_law_2551 (by decide) ?_
  exact m_L_law_b3450 hc hr hin hl0 hZ k28 hk28 h a0 a1 a2 a3 a4 v5 _ _ _ _ _ _ hX hf hq hn _ (lv_sub hl [0, 1, 2, 3, 4, 5] rfl)
set_option maxHeartbeats 4000000 in
set_option maxRecDepth 100000 in
theorem m_L_law_b2498 {p : Program} {l : Launch} {e : Env} {s : State} {m : MethodId} {args : Array Value} {below : List Frame} {meth : Method} {c : Code} {D : va_G} {dA : Nat → ClassId} {b0 : Nat} {gs : Nat → Option Nat} (hc : zC D dA b0 gs x.cls cL_law 9 p c s m args meth) (hr : meth.sig.returnType = ret) (hin : meth.name = x.name) {r : Int32} {hh : PH} {mc ms : Nat} {L : Nat} {xs : Nat → Int32} (hl0 : l.stackTraces = false) {Q : State → Prop} (hZ : ∀ (pc : Nat) (ls : Array Slot) (H : Heap) (locs : List Loc), decode cL_law pc = .ok (.ireturn, 1) → zM D dA b0 gs s hh H locs → W p l e ({ frames := 16, cells := mc, slots := ms, locals := 3214 } : Room) s m args below meth c H locs mc ms Q (F0 m pc ls [.int r])) (k28 : PH → Nat → Nat → Nat → Nat → Nat → Int32 → ZR Int32) (hk28 : ∀ (h : PH) (a0 : Nat) (a1 : Nat) (a2 : Nat) (a3 : Nat) (a4 : Nat) (v5 : Int32) (C9 S9 : Nat) (H : Heap) (locs : List Loc) (cells slots : Nat), va_X a0 L xs s s.heap ∧ a0 < b0 → k28 h a0 a1 a2 a3 a4 v5 = some (r, hh, C9, S9) → cells + C9 = mc ∧ slots + S9 = ms → zM D dA b0 gs s h H locs → ∀ ls : Array Slot, lv_has ls 9 [(0, .ref a0), (1, .ref a1), (2, .ref a2), (3, .ref a3), (4, .ref a4), (5, .int v5)] → W p l e ({ frames := 16, cells := mc, slots := ms, locals := 3214 } : Room) s m args below meth c H locs cells slots Q (F0 m 28 ls [])) : ∀ (h : PH) (a0 : Nat) (a1 : Nat) (a2 : Nat) (a3 : Nat) (a4 : Nat) (v5 : Int32) (C9 S9 : Nat) (H : Heap) (locs : List Loc) (cells slots : Nat), va_X a0 L xs s s.heap ∧ a0 < b0 → f_L_law_b2498 L xs k28 h a0 a1 a2 a3 a4 v5 = some (r, hh, C9, S9) → cells + C9 = mc ∧ slots + S9 = ms → zM D dA b0 gs s h H locs → ∀ ls : Array Slot, lv_has ls 9 [(0, .ref a0), (1, .ref a1), (2, .ref a2), (3, .ref a3), (4, .ref a4), (5, .int v5)] → W p l e ({ frames := 16, cells := mc, slots := ms, locals := 3214 } : Room) s m args below meth c H locs cells slots Q (F0 m 2498 ls []) := by
  have hx := hc.x
  have hb := hc.b
  intro h a0 a1 a2 a3 a4 v5 C9 S9 H locs cells slots hX hf hq hn ls hl
  unfold f_L_law_b2498 at hf
  refine lv_aload_n (x := a1) hx hb dL_law_2498 rfl (lv_at hl 1 rfl) ?_
  refine lv_aload_n (x := a0) hx hb dL_law_2499 rfl (lv_at hl 0 rfl) ?_
  refine lv_iload hx hb dL_law_2500 (lv_at hl 5 rfl) ?_
  refine lv_iconst (v := (1 : Int32)) hx hb dL_law_2502 (by decide) ?_
  refine lv_iadd hx hb dL_law_2503 ?_
  refine zr_nmI hf (fun x101 hf => ?_)
  refine zr_xld hc hn hX hf dL_law_2504 (fun x102 hf => ?_)
  refine lv_aload_n (x := a3) hx hb dL_law_2505 rfl (lv_at hl 3 rfl) ?_
  refine zr_cSWI (As := [.ref a1, .int x102, .ref a3]) (rest := []) hc hn hq hd_X0_logKey (lw_SW q1852 q1853 q83 q1854) (Nat.le_of_ble_eq_true rfl) (Nat.le_of_ble_eq_true rfl) (fun _ _ _ _ q => m_X0_logKey l hl0 D dA b0 gs h a1 x102 a3 q) hf dL_law_2506 hl.1 rfl rfl (zroom (Nat.le_of_ble_eq_true rfl)) (fun x103 h104 H locs cells slots C9 S9 hf hq hn => ?_)
  refine lv_istore (lv' := [(6, .int x103), (0, .ref a0), (1, .ref a1), (2, .ref a2), (3, .ref a3), (4, .ref a4), (5, .int v5)]) hx hb dL_law_2509 hl (by decide) rfl (fun ls hl => ?_)
  refine lv_aload_n (x := a2) hx hb dL_law_2511 rfl (lv_at hl 3 rfl) ?_
  refine lv_aload_n (x := a0) hx hb dL_law_2512 rfl (lv_at hl 1 rfl) ?_
  refine lv_iload hx hb dL_law_2513 (lv_at hl 6 rfl) ?_
  refine lv_iconst (v := (1 : Int32)) hx hb dL_law_2515 (by decide) ?_
  refine lv_iadd hx hb dL_law_2516 ?_
  refine zr_nmI hf (fun x105 hf => ?_)
  refine zr_xld hc hn hX hf dL_law_2517 (fun x106 hf => ?_)
  refine zr_cVI (As := [.int x106]) (rest := []) hc hn hq (ci := 3) rfl ⟨rfl, hd_X4_logKey⟩ (lw_V q2549 q2550 q2551 q91 q2552) (Nat.le_of_ble_eq_true rfl) (Nat.le_of_ble_eq_true rfl) (fun _ _ _ _ q => m_X4_logKey l D dA b0 gs h104 a2 x106 q) hf dL_law_2518 hl.1 rfl rfl (zroom (Nat.le_of_ble_eq_true rfl)) (fun x107 h108 H locs cells slots C9 S9 hf hq hn => ?_)
  refine lv_istore (lv' := [(7, .int x107), (6, .int x103), (0, .ref a0), (1, .ref a1), (2, .ref a2), (3, .ref a3), (4, .ref a4), (5, .int v5)]) hx hb dL_law_2521 hl (by decide) rfl (fun ls hl => ?_)
  refine lv_aload_n (x := a2) hx hb dL_law_2523 rfl (lv_at hl 4 rfl) ?_
  refine zr_cVI (As := []) (rest := []) hc hn hq (ci := 3) rfl ⟨rfl, hd_X4_thrown⟩ (lw_V q2195 q2196 q2197 q91 q2198) (Nat.le_of_ble_eq_true rfl) (Nat.le_of_ble_eq_true rfl) (fun _ _ _ _ q => m_X4_thrown l D dA b0 gs h108 a2 q) hf dL_law_2524 hl.1 rfl rfl (zroom (Nat.le_of_ble_eq_true rfl)) (fun x109 h110 H locs cells slots C9 S9 hf hq hn => ?_)
  refine lv_iload hx hb dL_law_2527 (lv_at hl 1 rfl) ?_
  refine lv_icmp_eq (tgt := 2534) hx hb dL_law_2529 (by decide) (fun c9 => ?_) (fun c9 => ?_)
  · have hf := zif_t c9 hf
    refine lv_iload hx hb dL_law_2534 (lv_at hl 1 rfl) ?_
    refine lv_if_ne (tgt := 2551) hx hb dL_law_2536 (by decide) (fun c9 => ?_) (fun c9 => ?_)
    · have hf := zif_f c9 hf
      exact m_L_law_b2551 hc hr hin hl0 hZ k28 hk28 h110 a0 a1 a2 a3 a4 v5 _ _ _ _ _ _ hX hf hq hn _ (lv_sub hl [2, 3, 4, 5, 6, 7] rfl)
    · have hf := zif_t c9 hf
      refine lv_aload_n (x := a3) hx hb dL_law_2539 rfl (lv_at hl 5 rfl) ?_
      refine lv_iconst (v := (0 : Int32)) hx hb dL_law_2540 (by decide) ?_
      refine zr_aL hc hn hf dL_law_2541 (fun x111 hf => ?_)
      refine lv_iload hx hb dL_law_2542 (lv_at hl 0 rfl) ?_
      refine lv_i2l (v := x107.toInt64) hx hb dL_law_2544 rfl ?_
      refine zr_nmL hf (fun x112 hf => ?_)
      refine W.lcmp hx hb dL_law_2545 ?_
      refine zr_nmI hf (fun x113 hf => ?_)
      refine lv_if_eq (tgt := 2551) hx hb dL_law_2546 (by decide) (fun c9 => ?_) (fun c9 => ?_)
      · have hf := zif_t c9 hf
        exact m_L_law_b2551 hc hr hin hl0 hZ k28 hk28 h110 a0 a1 a2 a3 a4 v5 _ _ _ _ _ _ hX hf hq hn _ (lv_sub hl [2, 3, 4, 5, 6, 7] rfl)
      · have hf := zif_f c9 hf
        refine lv_iconst (v := (0 : Int32)) hx hb dL_law_2549 (by decide) ?_
        obtain ⟨rfl, rfl, rfl, rfl⟩ := zret_i hf
        obtain ⟨hq1, hq2⟩ := hq
        subst hq1
        subst hq2
        exact hZ _ _ _ _ dL_law_2550 hn
  · have hf := zif_f c9 hf
    refine lv_iconst (v := (0 : Int32)) hx hb dL_law_2532 (by decide) ?_
    obtain ⟨rfl, rfl, rfl, rfl⟩ := zret_i hf
    obtain ⟨hq1, hq2⟩ := hq
    subst hq1
    subst hq2
    exact hZ _ _ _ _ dL_law_2533 hn
set_option maxHeartbeats 4000000 in
set_option maxRecDepth 100000 in
theorem m_L_law_b2607 {p : Program} {l : Launch} {e : Env} {s : State} {m : MethodId} {args : Array Value} {below : List Frame} {meth : Method} {c : Code} {D : va_G} {dA : Nat → ClassId} {b0 : Nat} {gs : Nat → Option Nat} (hc : zC D dA b0 gs x.cls cL_law 9 p c s m args meth) (hr : meth.sig.returnType = ret) (hin : meth.name = x.name) {r : Int32} {hh : PH} {mc ms : Nat} {L : Nat} {xs : Nat → Int32} (hl0 : l.stackTraces = false) {Q : State → Prop} (hZ : ∀ (pc : Nat) (ls : Array Slot) (H : Heap) (locs : List Loc), decode cL_law pc = .ok (.ireturn, 1) → zM D dA b0 gs s hh H locs → W p l e ({ frames := 16, cells := mc, slots := ms, locals := 3214 } : Room) s m args below meth c H locs mc ms Q (F0 m pc ls [.int r])) (k28 : PH → Nat → Nat → Nat → Nat → Nat → Int32 → ZR Int32) (hk28 : ∀ (h : PH) (a0 : Nat) (a1 : Nat) (a2 : Nat) (a3 : Nat) (a4 : Nat) (v5 : Int32) (C9 S9 : Nat) (H : Heap) (locs : List Loc) (cells slots : Nat), va_X a0 L xs s s.heap ∧ a0 < b0 → k28 h a0 a1 a2 a3 a4 v5 = some (r, hh, C9, S9) → cells + C9 = mc ∧ slots + S9 = ms → zM D dA b0 gs s h H locs → ∀ ls : Array Slot, lv_has ls 9 [(0, .ref a0), (1, .ref a1), (2, .ref a2), (3, .ref a3), (4, .ref a4), (5, .int v5)] → W p l e ({ frames := 16, cells := mc, slots := ms, locals := 3214 } : Room) s m args below meth c H locs cells slots Q (F0 m 28 ls [])) : ∀ (h : PH) (a0 : Nat) (a1 : Nat) (a2 : Nat) (a3 : Nat) (a4 : Nat) (v5 : Int32) (C9 S9 : Nat) (H : Heap) (locs : List Loc) (cells slots : Nat), va_X a0 L xs s s.heap ∧ a0 < b0 → f_L_law_b2607 L xs k28 h a0 a1 a2 a3 a4 v5 = some (r, hh, C9, S9) → cells + C9 = mc ∧ slots + S9 = ms → zM D dA b0 gs s h H locs → ∀ ls : Array Slot, lv_has ls 9 [(0, .ref a0), (1, .ref a1), (2, .ref a2), (3, .ref a3), (4, .ref a4), (5, .int v5)] → W p l e ({ frames := 16, cells := mc, slots := ms, locals := 3214 } : Room) s m args below meth c H locs cells slots Q (F0 m 2607 ls []) := by
  have hx := hc.x
  have hb := hc.b
  intro h a0 a1 a2 a3 a4 v5 C9 S9 H locs cells slots hX hf hq hn ls hl
  unfold f_L_law_b2607 at hf
  refine lv_goto (tgt := 3450) hx hb dL_law_2607 (by decide) ?_
  exact m_L_law_b3450 hc hr hin hl0 hZ k28 hk28 h a0 a1 a2 a3 a4 v5 _ _ _ _ _ _ hX hf hq hn _ (lv_sub hl [0, 1, 2, 3, 4, 5] rfl)
set_option maxHeartbeats 4000000 in
set_option maxRecDepth 100000 in
theorem m_L_law_b2554 {p : Program} {l : Launch} {e : Env} {s : State} {m : MethodId} {args : Array Value} {below : List Frame} {meth : Method} {c : Code} {D : va_G} {dA : Nat → ClassId} {b0 : Nat} {gs : Nat → Option Nat} (hc : zC D dA b0 gs x.cls cL_law 9 p c s m args meth) (hr : meth.sig.returnType = ret) (hin : meth.name = x.name) {r : Int32} {hh : PH} {mc ms : Nat} {L : Nat} {xs : Nat → Int32} (hl0 : l.stackTraces = false) {Q : State → Prop} (hZ : ∀ (pc : Nat) (ls : Array Slot) (H : Heap) (locs : List Loc), decode cL_law pc = .ok (.ireturn, 1) → zM D dA b0 gs s hh H locs → W p l e ({ frames := 16, cells := mc, slots := ms, locals := 3214 } : Room) s m args below meth c H locs mc ms Q (F0 m pc ls [.int r])) (k28 : PH → Nat → Nat → Nat → Nat → Nat → Int32 → ZR Int32) (hk28 : ∀ (h : PH) (a0 : Nat) (a1 : Nat) (a2 : Nat) (a3 : Nat) (a4 : Nat) (v5 : Int32) (C9 S9 : Nat) (H : Heap) (locs : List Loc) (cells slots : Nat), va_X a0 L xs s s.heap ∧ a0 < b0 → k28 h a0 a1 a2 a3 a4 v5 = some (r, hh, C9, S9) → cells + C9 = mc ∧ slots + S9 = ms → zM D dA b0 gs s h H locs → ∀ ls : Array Slot, lv_has ls 9 [(0, .ref a0), (1, .ref a1), (2, .ref a2), (3, .ref a3), (4, .ref a4), (5, .int v5)] → W p l e ({ frames := 16, cells := mc, slots := ms, locals := 3214 } : Room) s m args below meth c H locs cells slots Q (F0 m 28 ls [])) : ∀ (h : PH) (a0 : Nat) (a1 : Nat) (a2 : Nat) (a3 : Nat) (a4 : Nat) (v5 : Int32) (C9 S9 : Nat) (H : Heap) (locs : List Loc) (cells slots : Nat), va_X a0 L xs s s.heap ∧ a0 < b0 → f_L_law_b2554 L xs k28 h a0 a1 a2 a3 a4 v5 = some (r, hh, C9, S9) → cells + C9 = mc ∧ slots + S9 = ms → zM D dA b0 gs s h H locs → ∀ ls : Array Slot, lv_has ls 9 [(0, .ref a0), (1, .ref a1), (2, .ref a2), (3, .ref a3), (4, .ref a4), (5, .int v5)] → W p l e ({ frames := 16, cells := mc, slots := ms, locals := 3214 } : Room) s m args below meth c H locs cells slots Q (F0 m 2554 ls []) := by
  have hx := hc.x
  have hb := hc.b
  intro h a0 a1 a2 a3 a4 v5 C9 S9 H locs cells slots hX hf hq hn ls hl
  unfold f_L_law_b2554 at hf
  refine lv_aload_n (x := a1) hx hb dL_law_2554 rfl (lv_at hl 1 rfl) ?_
  refine lv_aload_n (x := a0) hx hb dL_law_2555 rfl (lv_at hl 0 rfl) ?_
  refine lv_iload hx hb dL_law_2556 (lv_at hl 5 rfl) ?_
  refine lv_iconst (v := (1 : Int32)) hx hb dL_law_2558 (by decide) ?_
  refine lv_iadd hx hb dL_law_2559 ?_
  refine zr_nmI hf (fun x101 hf => ?_)
  refine zr_xld hc hn hX hf dL_law_2560 (fun x102 hf => ?_)
  refine lv_aload_n (x := a3) hx hb dL_law_2561 rfl (lv_at hl 3 rfl) ?_
  refine zr_cSWI (As := [.ref a1, .int x102, .ref a3]) (rest := []) hc hn hq hd_X0_counter (lw_SW q1863 q1864 q83 q1865) (Nat.le_of_ble_eq_true rfl) (Nat.le_of_ble_eq_true rfl) (fun _ _ _ _ q => m_X0_counter l hl0 D dA b0 gs h a1 x102 a3 q) hf dL_law_2562 hl.1 rfl rfl (zroom (Nat.le_of_ble_eq_true rfl)) (fun x103 h104 H locs cells slots C9 S9 hf hq hn => ?_)
  refine lv_istore (lv' := [(6, .int x103), (0, .ref a0), (1, .ref a1), (2, .ref a2), (3, .ref a3), (4, .ref a4), (5, .int v5)]) hx hb dL_law_2565 hl (by decide) rfl (fun ls hl => ?_)
  refine lv_aload_n (x := a2) hx hb dL_law_2567 rfl (lv_at hl 3 rfl) ?_
  refine lv_aload_n (x := a0) hx hb dL_law_2568 rfl (lv_at hl 1 rfl) ?_
  refine lv_iload hx hb dL_law_2569 (lv_at hl 6 rfl) ?_
  refine lv_iconst (v := (1 : Int32)) hx hb dL_law_2571 (by decide) ?_
  refine lv_iadd hx hb dL_law_2572 ?_
  refine zr_nmI hf (fun x105 hf => ?_)
  refine zr_xld hc hn hX hf dL_law_2573 (fun x106 hf => ?_)
  refine zr_cVI (As := [.int x106]) (rest := []) hc hn hq (ci := 3) rfl ⟨rfl, hd_X4_counter⟩ (lw_V q2553 q2554 q2555 q91 q2556) (Nat.le_of_ble_eq_true rfl) (Nat.le_of_ble_eq_true rfl) (fun _ _ _ _ q => m_X4_counter l D dA b0 gs h104 a2 x106 q) hf dL_law_2574 hl.1 rfl rfl (zroom (Nat.le_of_ble_eq_true rfl)) (fun x107 h108 H locs cells slots C9 S9 hf hq hn => ?_)
  refine lv_istore (lv' := [(7, .int x107), (6, .int x103), (0, .ref a0), (1, .ref a1), (2, .ref a2), (3, .ref a3), (4, .ref a4), (5, .int v5)]) hx hb dL_law_2577 hl (by decide) rfl (fun ls hl => ?_)
  refine lv_aload_n (x := a2) hx hb dL_law_2579 rfl (lv_at hl 4 rfl) ?_
  refine zr_cVI (As := []) (rest := []) hc hn hq (ci := 3) rfl ⟨rfl, hd_X4_thrown⟩ (lw_V q2195 q2196 q2197 q91 q2198) (Nat.le_of_ble_eq_true rfl) (Nat.le_of_ble_eq_true rfl) (fun _ _ _ _ q => m_X4_thrown l D dA b0 gs h108 a2 q) hf dL_law_2580 hl.1 rfl rfl (zroom (Nat.le_of_ble_eq_true rfl)) (fun x109 h110 H locs cells slots C9 S9 hf hq hn => ?_)
  refine lv_iload hx hb dL_law_2583 (lv_at hl 1 rfl) ?_
  refine lv_icmp_eq (tgt := 2590) hx hb dL_law_2585 (by decide) (fun c9 => ?_) (fun c9 => ?_)
  · have hf := zif_t c9 hf
    refine lv_iload hx hb dL_law_2590 (lv_at hl 1 rfl) ?_
    refine lv_if_ne (tgt := 2607) hx hb dL_law_2592 (by decide) (fun c9 => ?_) (fun c9 => ?_)
    · have hf := zif_f c9 hf
      exact m_L_law_b2607 hc hr hin hl0 hZ k28 hk28 h110 a0 a1 a2 a3 a4 v5 _ _ _ _ _ _ hX hf hq hn _ (lv_sub hl [2, 3, 4, 5, 6, 7] rfl)
    · have hf := zif_t c9 hf
      refine lv_aload_n (x := a3) hx hb dL_law_2595 rfl (lv_at hl 5 rfl) ?_
      refine lv_iconst (v := (0 : Int32)) hx hb dL_law_2596 (by decide) ?_
      refine zr_aL hc hn hf dL_law_2597 (fun x111 hf => ?_)
      refine lv_iload hx hb dL_law_2598 (lv_at hl 0 rfl) ?_
      refine lv_i2l (v := x107.toInt64) hx hb dL_law_2600 rfl ?_
      refine zr_nmL hf (fun x112 hf => ?_)
      refine W.lcmp hx hb dL_law_2601 ?_
      refine zr_nmI hf (fun x113 hf => ?_)
      refine lv_if_eq (tgt := 2607) hx hb dL_law_2602 (by decide) (fun c9 => ?_) (fun c9 => ?_)
      · have hf := zif_t c9 hf
        exact m_L_law_b2607 hc hr hin hl0 hZ k28 hk28 h110 a0 a1 a2 a3 a4 v5 _ _ _ _ _ _ hX hf hq hn _ (lv_sub hl [2, 3, 4, 5, 6, 7] rfl)
      · have hf := zif_f c9 hf
        refine lv_iconst (v := (0 : Int32)) hx hb dL_law_2605 (by decide) ?_
        obtain ⟨rfl, rfl, rfl, rfl⟩ := zret_i hf
        obtain ⟨hq1, hq2⟩ := hq
        subst hq1
        subst hq2
        exact hZ _ _ _ _ dL_law_2606 hn
  · have hf := zif_f c9 hf
    refine lv_iconst (v := (0 : Int32)) hx hb dL_law_2588 (by decide) ?_
    obtain ⟨rfl, rfl, rfl, rfl⟩ := zret_i hf
    obtain ⟨hq1, hq2⟩ := hq
    subst hq1
    subst hq2
    exact hZ _ _ _ _ dL_law_2589 hn
set_option maxHeartbeats 4000000 in
set_option maxRecDepth 100000 in
theorem m_L_law_b2651 {p : Program} {l : Launch} {e : Env} {s : State} {m : MethodId} {args : Array Value} {below : List Frame} {meth : Method} {c : Code} {D : va_G} {dA : Nat → ClassId} {b0 : Nat} {gs : Nat → Option Nat} (hc : zC D dA b0 gs x.cls cL_law 9 p c s m args meth) (hr : meth.sig.returnType = ret) (hin : meth.name = x.name) {r : Int32} {hh : PH} {mc ms : Nat} {L : Nat} {xs : Nat → Int32} (hl0 : l.stackTraces = false) {Q : State → Prop} (hZ : ∀ (pc : Nat) (ls : Array Slot) (H : Heap) (locs : List Loc), decode cL_law pc = .ok (.ireturn, 1) → zM D dA b0 gs s hh H locs → W p l e ({ frames := 16, cells := mc, slots := ms, locals := 3214 } : Room) s m args below meth c H locs mc ms Q (F0 m pc ls [.int r])) (k28 : PH → Nat → Nat → Nat → Nat → Nat → Int32 → ZR Int32) (hk28 : ∀ (h : PH) (a0 : Nat) (a1 : Nat) (a2 : Nat) (a3 : Nat) (a4 : Nat) (v5 : Int32) (C9 S9 : Nat) (H : Heap) (locs : List Loc) (cells slots : Nat), va_X a0 L xs s s.heap ∧ a0 < b0 → k28 h a0 a1 a2 a3 a4 v5 = some (r, hh, C9, S9) → cells + C9 = mc ∧ slots + S9 = ms → zM D dA b0 gs s h H locs → ∀ ls : Array Slot, lv_has ls 9 [(0, .ref a0), (1, .ref a1), (2, .ref a2), (3, .ref a3), (4, .ref a4), (5, .int v5)] → W p l e ({ frames := 16, cells := mc, slots := ms, locals := 3214 } : Room) s m args below meth c H locs cells slots Q (F0 m 28 ls [])) : ∀ (h : PH) (a0 : Nat) (a1 : Nat) (a2 : Nat) (a3 : Nat) (a4 : Nat) (v5 : Int32) (C9 S9 : Nat) (H : Heap) (locs : List Loc) (cells slots : Nat), va_X a0 L xs s s.heap ∧ a0 < b0 → f_L_law_b2651 L xs k28 h a0 a1 a2 a3 a4 v5 = some (r, hh, C9, S9) → cells + C9 = mc ∧ slots + S9 = ms → zM D dA b0 gs s h H locs → ∀ ls : Array Slot, lv_has ls 9 [(0, .ref a0), (1, .ref a1), (2, .ref a2), (3, .ref a3), (4, .ref a4), (5, .int v5)] → W p l e ({ frames := 16, cells := mc, slots := ms, locals := 3214 } : Room) s m args below meth c H locs cells slots Q (F0 m 2651 ls []) := by
  have hx := hc.x
  have hb := hc.b
  intro h a0 a1 a2 a3 a4 v5 C9 S9 H locs cells slots hX hf hq hn ls hl
  unfold f_L_law_b2651 at hf
  refine lv_goto (tgt := 3450) hx hb dL_law_2651 (by decide) ?_
  exact m_L_law_b3450 hc hr hin hl0 hZ k28 hk28 h a0 a1 a2 a3 a4 v5 _ _ _ _ _ _ hX hf hq hn _ (lv_sub hl [0, 1, 2, 3, 4, 5] rfl)
set_option maxHeartbeats 4000000 in
set_option maxRecDepth 100000 in
theorem m_L_law_b2610 {p : Program} {l : Launch} {e : Env} {s : State} {m : MethodId} {args : Array Value} {below : List Frame} {meth : Method} {c : Code} {D : va_G} {dA : Nat → ClassId} {b0 : Nat} {gs : Nat → Option Nat} (hc : zC D dA b0 gs x.cls cL_law 9 p c s m args meth) (hr : meth.sig.returnType = ret) (hin : meth.name = x.name) {r : Int32} {hh : PH} {mc ms : Nat} {L : Nat} {xs : Nat → Int32} (hl0 : l.stackTraces = false) {Q : State → Prop} (hZ : ∀ (pc : Nat) (ls : Array Slot) (H : Heap) (locs : List Loc), decode cL_law pc = .ok (.ireturn, 1) → zM D dA b0 gs s hh H locs → W p l e ({ frames := 16, cells := mc, slots := ms, locals := 3214 } : Room) s m args below meth c H locs mc ms Q (F0 m pc ls [.int r])) (k28 : PH → Nat → Nat → Nat → Nat → Nat → Int32 → ZR Int32) (hk28 : ∀ (h : PH) (a0 : Nat) (a1 : Nat) (a2 : Nat) (a3 : Nat) (a4 : Nat) (v5 : Int32) (C9 S9 : Nat) (H : Heap) (locs : List Loc) (cells slots : Nat), va_X a0 L xs s s.heap ∧ a0 < b0 → k28 h a0 a1 a2 a3 a4 v5 = some (r, hh, C9, S9) → cells + C9 = mc ∧ slots + S9 = ms → zM D dA b0 gs s h H locs → ∀ ls : Array Slot, lv_has ls 9 [(0, .ref a0), (1, .ref a1), (2, .ref a2), (3, .ref a3), (4, .ref a4), (5, .int v5)] → W p l e ({ frames := 16, cells := mc, slots := ms, locals := 3214 } : Room) s m args below meth c H locs cells slots Q (F0 m 28 ls [])) : ∀ (h : PH) (a0 : Nat) (a1 : Nat) (a2 : Nat) (a3 : Nat) (a4 : Nat) (v5 : Int32) (C9 S9 : Nat) (H : Heap) (locs : List Loc) (cells slots : Nat), va_X a0 L xs s s.heap ∧ a0 < b0 → f_L_law_b2610 L xs k28 h a0 a1 a2 a3 a4 v5 = some (r, hh, C9, S9) → cells + C9 = mc ∧ slots + S9 = ms → zM D dA b0 gs s h H locs → ∀ ls : Array Slot, lv_has ls 9 [(0, .ref a0), (1, .ref a1), (2, .ref a2), (3, .ref a3), (4, .ref a4), (5, .int v5)] → W p l e ({ frames := 16, cells := mc, slots := ms, locals := 3214 } : Room) s m args below meth c H locs cells slots Q (F0 m 2610 ls []) := by
  have hx := hc.x
  have hb := hc.b
  intro h a0 a1 a2 a3 a4 v5 C9 S9 H locs cells slots hX hf hq hn ls hl
  unfold f_L_law_b2610 at hf
  refine lv_aload_n (x := a1) hx hb dL_law_2610 rfl (lv_at hl 1 rfl) ?_
  refine lv_aload_n (x := a3) hx hb dL_law_2611 rfl (lv_at hl 3 rfl) ?_
  refine zr_cSWI (As := [.ref a1, .ref a3]) (rest := []) hc hn hq hd_X0_create (lw_SW q1870 q1871 q83 q1872) (Nat.le_of_ble_eq_true rfl) (Nat.le_of_ble_eq_true rfl) (fun _ _ _ _ q => m_X0_create l hl0 D dA b0 gs h a1 a3 q) hf dL_law_2612 hl.1 rfl rfl (zroom (Nat.le_of_ble_eq_true rfl)) (fun x101 h102 H locs cells slots C9 S9 hf hq hn => ?_)
  refine lv_istore (lv' := [(6, .int x101), (0, .ref a0), (1, .ref a1), (2, .ref a2), (3, .ref a3), (4, .ref a4), (5, .int v5)]) hx hb dL_law_2615 hl (by decide) rfl (fun ls hl => ?_)
  refine lv_aload_n (x := a2) hx hb dL_law_2617 rfl (lv_at hl 3 rfl) ?_
  refine zr_cVI (As := []) (rest := []) hc hn hq (ci := 3) rfl ⟨rfl, hd_X4_create⟩ (lw_V q2557 q2558 q2559 q91 q2560) (Nat.le_of_ble_eq_true rfl) (Nat.le_of_ble_eq_true rfl) (fun _ _ _ _ q => m_X4_create l D dA b0 gs h102 a2 q) hf dL_law_2618 hl.1 rfl rfl (zroom (Nat.le_of_ble_eq_true rfl)) (fun x103 h104 H locs cells slots C9 S9 hf hq hn => ?_)
  refine lv_istore (lv' := [(7, .int x103), (6, .int x101), (0, .ref a0), (1, .ref a1), (2, .ref a2), (3, .ref a3), (4, .ref a4), (5, .int v5)]) hx hb dL_law_2621 hl (by decide) rfl (fun ls hl => ?_)
  refine lv_aload_n (x := a2) hx hb dL_law_2623 rfl (lv_at hl 4 rfl) ?_
  refine zr_cVI (As := []) (rest := []) hc hn hq (ci := 3) rfl ⟨rfl, hd_X4_thrown⟩ (lw_V q2195 q2196 q2197 q91 q2198) (Nat.le_of_ble_eq_true rfl) (Nat.le_of_ble_eq_true rfl) (fun _ _ _ _ q => m_X4_thrown l D dA b0 gs h104 a2 q) hf dL_law_2624 hl.1 rfl rfl (zroom (Nat.le_of_ble_eq_true rfl)) (fun x105 h106 H locs cells slots C9 S9 hf hq hn => ?_)
  refine lv_iload hx hb dL_law_2627 (lv_at hl 1 rfl) ?_
  refine lv_icmp_eq (tgt := 2634) hx hb dL_law_2629 (by decide) (fun c9 => ?_) (fun c9 => ?_)
  · have hf := zif_t c9 hf
    refine lv_iload hx hb dL_law_2634 (lv_at hl 1 rfl) ?_
    refine lv_if_ne (tgt := 2651) hx hb dL_law_2636 (by decide) (fun c9 => ?_) (fun c9 => ?_)
    · have hf := zif_f c9 hf
      exact m_L_law_b2651 hc hr hin hl0 hZ k28 hk28 h106 a0 a1 a2 a3 a4 v5 _ _ _ _ _ _ hX hf hq hn _ (lv_sub hl [2, 3, 4, 5, 6, 7] rfl)
    · have hf := zif_t c9 hf
      refine lv_aload_n (x := a3) hx hb dL_law_2639 rfl (lv_at hl 5 rfl) ?_
      refine lv_iconst (v := (0 : Int32)) hx hb dL_law_2640 (by decide) ?_
      refine zr_aL hc hn hf dL_law_2641 (fun x107 hf => ?_)
      refine lv_iload hx hb dL_law_2642 (lv_at hl 0 rfl) ?_
      refine lv_i2l (v := x103.toInt64) hx hb dL_law_2644 rfl ?_
      refine zr_nmL hf (fun x108 hf => ?_)
      refine W.lcmp hx hb dL_law_2645 ?_
      refine zr_nmI hf (fun x109 hf => ?_)
      refine lv_if_eq (tgt := 2651) hx hb dL_law_2646 (by decide) (fun c9 => ?_) (fun c9 => ?_)
      · have hf := zif_t c9 hf
        exact m_L_law_b2651 hc hr hin hl0 hZ k28 hk28 h106 a0 a1 a2 a3 a4 v5 _ _ _ _ _ _ hX hf hq hn _ (lv_sub hl [2, 3, 4, 5, 6, 7] rfl)
      · have hf := zif_f c9 hf
        refine lv_iconst (v := (0 : Int32)) hx hb dL_law_2649 (by decide) ?_
        obtain ⟨rfl, rfl, rfl, rfl⟩ := zret_i hf
        obtain ⟨hq1, hq2⟩ := hq
        subst hq1
        subst hq2
        exact hZ _ _ _ _ dL_law_2650 hn
  · have hf := zif_f c9 hf
    refine lv_iconst (v := (0 : Int32)) hx hb dL_law_2632 (by decide) ?_
    obtain ⟨rfl, rfl, rfl, rfl⟩ := zret_i hf
    obtain ⟨hq1, hq2⟩ := hq
    subst hq1
    subst hq2
    exact hZ _ _ _ _ dL_law_2633 hn
set_option maxHeartbeats 4000000 in
set_option maxRecDepth 100000 in
theorem m_L_law_b2707 {p : Program} {l : Launch} {e : Env} {s : State} {m : MethodId} {args : Array Value} {below : List Frame} {meth : Method} {c : Code} {D : va_G} {dA : Nat → ClassId} {b0 : Nat} {gs : Nat → Option Nat} (hc : zC D dA b0 gs x.cls cL_law 9 p c s m args meth) (hr : meth.sig.returnType = ret) (hin : meth.name = x.name) {r : Int32} {hh : PH} {mc ms : Nat} {L : Nat} {xs : Nat → Int32} (hl0 : l.stackTraces = false) {Q : State → Prop} (hZ : ∀ (pc : Nat) (ls : Array Slot) (H : Heap) (locs : List Loc), decode cL_law pc = .ok (.ireturn, 1) → zM D dA b0 gs s hh H locs → W p l e ({ frames := 16, cells := mc, slots := ms, locals := 3214 } : Room) s m args below meth c H locs mc ms Q (F0 m pc ls [.int r])) (k28 : PH → Nat → Nat → Nat → Nat → Nat → Int32 → ZR Int32) (hk28 : ∀ (h : PH) (a0 : Nat) (a1 : Nat) (a2 : Nat) (a3 : Nat) (a4 : Nat) (v5 : Int32) (C9 S9 : Nat) (H : Heap) (locs : List Loc) (cells slots : Nat), va_X a0 L xs s s.heap ∧ a0 < b0 → k28 h a0 a1 a2 a3 a4 v5 = some (r, hh, C9, S9) → cells + C9 = mc ∧ slots + S9 = ms → zM D dA b0 gs s h H locs → ∀ ls : Array Slot, lv_has ls 9 [(0, .ref a0), (1, .ref a1), (2, .ref a2), (3, .ref a3), (4, .ref a4), (5, .int v5)] → W p l e ({ frames := 16, cells := mc, slots := ms, locals := 3214 } : Room) s m args below meth c H locs cells slots Q (F0 m 28 ls [])) : ∀ (h : PH) (a0 : Nat) (a1 : Nat) (a2 : Nat) (a3 : Nat) (a4 : Nat) (v5 : Int32) (C9 S9 : Nat) (H : Heap) (locs : List Loc) (cells slots : Nat), va_X a0 L xs s s.heap ∧ a0 < b0 → f_L_law_b2707 L xs k28 h a0 a1 a2 a3 a4 v5 = some (r, hh, C9, S9) → cells + C9 = mc ∧ slots + S9 = ms → zM D dA b0 gs s h H locs → ∀ ls : Array Slot, lv_has ls 9 [(0, .ref a0), (1, .ref a1), (2, .ref a2), (3, .ref a3), (4, .ref a4), (5, .int v5)] → W p l e ({ frames := 16, cells := mc, slots := ms, locals := 3214 } : Room) s m args below meth c H locs cells slots Q (F0 m 2707 ls []) := by
  have hx := hc.x
  have hb := hc.b
  intro h a0 a1 a2 a3 a4 v5 C9 S9 H locs cells slots hX hf hq hn ls hl
  unfold f_L_law_b2707 at hf
  refine lv_goto (tgt := 3450) hx hb dL_law_2707 (by decide) ?_
  exact m_L_law_b3450 hc hr hin hl0 hZ k28 hk28 h a0 a1 a2 a3 a4 v5 _ _ _ _ _ _ hX hf hq hn _ (lv_sub hl [0, 1, 2, 3, 4, 5] rfl)
set_option maxHeartbeats 4000000 in
set_option maxRecDepth 100000 in
theorem m_L_law_b2654 {p : Program} {l : Launch} {e : Env} {s : State} {m : MethodId} {args : Array Value} {below : List Frame} {meth : Method} {c : Code} {D : va_G} {dA : Nat → ClassId} {b0 : Nat} {gs : Nat → Option Nat} (hc : zC D dA b0 gs x.cls cL_law 9 p c s m args meth) (hr : meth.sig.returnType = ret) (hin : meth.name = x.name) {r : Int32} {hh : PH} {mc ms : Nat} {L : Nat} {xs : Nat → Int32} (hl0 : l.stackTraces = false) {Q : State → Prop} (hZ : ∀ (pc : Nat) (ls : Array Slot) (H : Heap) (locs : List Loc), decode cL_law pc = .ok (.ireturn, 1) → zM D dA b0 gs s hh H locs → W p l e ({ frames := 16, cells := mc, slots := ms, locals := 3214 } : Room) s m args below meth c H locs mc ms Q (F0 m pc ls [.int r])) (k28 : PH → Nat → Nat → Nat → Nat → Nat → Int32 → ZR Int32) (hk28 : ∀ (h : PH) (a0 : Nat) (a1 : Nat) (a2 : Nat) (a3 : Nat) (a4 : Nat) (v5 : Int32) (C9 S9 : Nat) (H : Heap) (locs : List Loc) (cells slots : Nat), va_X a0 L xs s s.heap ∧ a0 < b0 → k28 h a0 a1 a2 a3 a4 v5 = some (r, hh, C9, S9) → cells + C9 = mc ∧ slots + S9 = ms → zM D dA b0 gs s h H locs → ∀ ls : Array Slot, lv_has ls 9 [(0, .ref a0), (1, .ref a1), (2, .ref a2), (3, .ref a3), (4, .ref a4), (5, .int v5)] → W p l e ({ frames := 16, cells := mc, slots := ms, locals := 3214 } : Room) s m args below meth c H locs cells slots Q (F0 m 28 ls [])) : ∀ (h : PH) (a0 : Nat) (a1 : Nat) (a2 : Nat) (a3 : Nat) (a4 : Nat) (v5 : Int32) (C9 S9 : Nat) (H : Heap) (locs : List Loc) (cells slots : Nat), va_X a0 L xs s s.heap ∧ a0 < b0 → f_L_law_b2654 L xs k28 h a0 a1 a2 a3 a4 v5 = some (r, hh, C9, S9) → cells + C9 = mc ∧ slots + S9 = ms → zM D dA b0 gs s h H locs → ∀ ls : Array Slot, lv_has ls 9 [(0, .ref a0), (1, .ref a1), (2, .ref a2), (3, .ref a3), (4, .ref a4), (5, .int v5)] → W p l e ({ frames := 16, cells := mc, slots := ms, locals := 3214 } : Room) s m args below meth c H locs cells slots Q (F0 m 2654 ls []) := by
  have hx := hc.x
  have hb := hc.b
  intro h a0 a1 a2 a3 a4 v5 C9 S9 H locs cells slots hX hf hq hn ls hl
  unfold f_L_law_b2654 at hf
  refine lv_aload_n (x := a1) hx hb dL_law_2654 rfl (lv_at hl 1 rfl) ?_
  refine lv_aload_n (x := a0) hx hb dL_law_2655 rfl (lv_at hl 0 rfl) ?_
  refine lv_iload hx hb dL_law_2656 (lv_at hl 5 rfl) ?_
  refine lv_iconst (v := (1 : Int32)) hx hb dL_law_2658 (by decide) ?_
  refine lv_iadd hx hb dL_law_2659 ?_
  refine zr_nmI hf (fun x101 hf => ?_)
  refine zr_xld hc hn hX hf dL_law_2660 (fun x102 hf => ?_)
  refine lv_aload_n (x := a3) hx hb dL_law_2661 rfl (lv_at hl 3 rfl) ?_
  refine zr_cSWI (As := [.ref a1, .int x102, .ref a3]) (rest := []) hc hn hq hd_X0_drop (lw_SW q1961 q1962 q83 q1963) (Nat.le_of_ble_eq_true rfl) (Nat.le_of_ble_eq_true rfl) (fun _ _ _ _ q => m_X0_drop l hl0 D dA b0 gs h a1 x102 a3 q) hf dL_law_2662 hl.1 rfl rfl (zroom (Nat.le_of_ble_eq_true rfl)) (fun x103 h104 H locs cells slots C9 S9 hf hq hn => ?_)
  refine lv_istore (lv' := [(6, .int x103), (0, .ref a0), (1, .ref a1), (2, .ref a2), (3, .ref a3), (4, .ref a4), (5, .int v5)]) hx hb dL_law_2665 hl (by decide) rfl (fun ls hl => ?_)
  refine lv_aload_n (x := a2) hx hb dL_law_2667 rfl (lv_at hl 3 rfl) ?_
  refine lv_aload_n (x := a0) hx hb dL_law_2668 rfl (lv_at hl 1 rfl) ?_
  refine lv_iload hx hb dL_law_2669 (lv_at hl 6 rfl) ?_
  refine lv_iconst (v := (1 : Int32)) hx hb dL_law_2671 (by decide) ?_
  refine lv_iadd hx hb dL_law_2672 ?_
  refine zr_nmI hf (fun x105 hf => ?_)
  refine zr_xld hc hn hX hf dL_law_2673 (fun x106 hf => ?_)
  refine zr_cVI (As := [.int x106]) (rest := []) hc hn hq (ci := 3) rfl ⟨rfl, hd_X4_drop⟩ (lw_V q2573 q2574 q2575 q91 q2576) (Nat.le_of_ble_eq_true rfl) (Nat.le_of_ble_eq_true rfl) (fun _ _ _ _ q => m_X4_drop l D dA b0 gs h104 a2 x106 q) hf dL_law_2674 hl.1 rfl rfl (zroom (Nat.le_of_ble_eq_true rfl)) (fun x107 h108 H locs cells slots C9 S9 hf hq hn => ?_)
  refine lv_istore (lv' := [(7, .int x107), (6, .int x103), (0, .ref a0), (1, .ref a1), (2, .ref a2), (3, .ref a3), (4, .ref a4), (5, .int v5)]) hx hb dL_law_2677 hl (by decide) rfl (fun ls hl => ?_)
  refine lv_aload_n (x := a2) hx hb dL_law_2679 rfl (lv_at hl 4 rfl) ?_
  refine zr_cVI (As := []) (rest := []) hc hn hq (ci := 3) rfl ⟨rfl, hd_X4_thrown⟩ (lw_V q2195 q2196 q2197 q91 q2198) (Nat.le_of_ble_eq_true rfl) (Nat.le_of_ble_eq_true rfl) (fun _ _ _ _ q => m_X4_thrown l D dA b0 gs h108 a2 q) hf dL_law_2680 hl.1 rfl rfl (zroom (Nat.le_of_ble_eq_true rfl)) (fun x109 h110 H locs cells slots C9 S9 hf hq hn => ?_)
  refine lv_iload hx hb dL_law_2683 (lv_at hl 1 rfl) ?_
  refine lv_icmp_eq (tgt := 2690) hx hb dL_law_2685 (by decide) (fun c9 => ?_) (fun c9 => ?_)
  · have hf := zif_t c9 hf
    refine lv_iload hx hb dL_law_2690 (lv_at hl 1 rfl) ?_
    refine lv_if_ne (tgt := 2707) hx hb dL_law_2692 (by decide) (fun c9 => ?_) (fun c9 => ?_)
    · have hf := zif_f c9 hf
      exact m_L_law_b2707 hc hr hin hl0 hZ k28 hk28 h110 a0 a1 a2 a3 a4 v5 _ _ _ _ _ _ hX hf hq hn _ (lv_sub hl [2, 3, 4, 5, 6, 7] rfl)
    · have hf := zif_t c9 hf
      refine lv_aload_n (x := a3) hx hb dL_law_2695 rfl (lv_at hl 5 rfl) ?_
      refine lv_iconst (v := (0 : Int32)) hx hb dL_law_2696 (by decide) ?_
      refine zr_aL hc hn hf dL_law_2697 (fun x111 hf => ?_)
      refine lv_iload hx hb dL_law_2698 (lv_at hl 0 rfl) ?_
      refine lv_i2l (v := x107.toInt64) hx hb dL_law_2700 rfl ?_
      refine zr_nmL hf (fun x112 hf => ?_)
      refine W.lcmp hx hb dL_law_2701 ?_
      refine zr_nmI hf (fun x113 hf => ?_)
      refine lv_if_eq (tgt := 2707) hx hb dL_law_2702 (by decide) (fun c9 => ?_) (fun c9 => ?_)
      · have hf := zif_t c9 hf
        exact m_L_law_b2707 hc hr hin hl0 hZ k28 hk28 h110 a0 a1 a2 a3 a4 v5 _ _ _ _ _ _ hX hf hq hn _ (lv_sub hl [2, 3, 4, 5, 6, 7] rfl)
      · have hf := zif_f c9 hf
        refine lv_iconst (v := (0 : Int32)) hx hb dL_law_2705 (by decide) ?_
        obtain ⟨rfl, rfl, rfl, rfl⟩ := zret_i hf
        obtain ⟨hq1, hq2⟩ := hq
        subst hq1
        subst hq2
        exact hZ _ _ _ _ dL_law_2706 hn
  · have hf := zif_f c9 hf
    refine lv_iconst (v := (0 : Int32)) hx hb dL_law_2688 (by decide) ?_
    obtain ⟨rfl, rfl, rfl, rfl⟩ := zret_i hf
    obtain ⟨hq1, hq2⟩ := hq
    subst hq1
    subst hq2
    exact hZ _ _ _ _ dL_law_2689 hn
set_option maxHeartbeats 4000000 in
set_option maxRecDepth 100000 in
theorem m_L_law_b2787 {p : Program} {l : Launch} {e : Env} {s : State} {m : MethodId} {args : Array Value} {below : List Frame} {meth : Method} {c : Code} {D : va_G} {dA : Nat → ClassId} {b0 : Nat} {gs : Nat → Option Nat} (hc : zC D dA b0 gs x.cls cL_law 9 p c s m args meth) (hr : meth.sig.returnType = ret) (hin : meth.name = x.name) {r : Int32} {hh : PH} {mc ms : Nat} {L : Nat} {xs : Nat → Int32} (hl0 : l.stackTraces = false) {Q : State → Prop} (hZ : ∀ (pc : Nat) (ls : Array Slot) (H : Heap) (locs : List Loc), decode cL_law pc = .ok (.ireturn, 1) → zM D dA b0 gs s hh H locs → W p l e ({ frames := 16, cells := mc, slots := ms, locals := 3214 } : Room) s m args below meth c H locs mc ms Q (F0 m pc ls [.int r])) (k28 : PH → Nat → Nat → Nat → Nat → Nat → Int32 → ZR Int32) (hk28 : ∀ (h : PH) (a0 : Nat) (a1 : Nat) (a2 : Nat) (a3 : Nat) (a4 : Nat) (v5 : Int32) (C9 S9 : Nat) (H : Heap) (locs : List Loc) (cells slots : Nat), va_X a0 L xs s s.heap ∧ a0 < b0 → k28 h a0 a1 a2 a3 a4 v5 = some (r, hh, C9, S9) → cells + C9 = mc ∧ slots + S9 = ms → zM D dA b0 gs s h H locs → ∀ ls : Array Slot, lv_has ls 9 [(0, .ref a0), (1, .ref a1), (2, .ref a2), (3, .ref a3), (4, .ref a4), (5, .int v5)] → W p l e ({ frames := 16, cells := mc, slots := ms, locals := 3214 } : Room) s m args below meth c H locs cells slots Q (F0 m 28 ls [])) : ∀ (h : PH) (a0 : Nat) (a1 : Nat) (a2 : Nat) (a3 : Nat) (a4 : Nat) (v5 : Int32) (C9 S9 : Nat) (H : Heap) (locs : List Loc) (cells slots : Nat), va_X a0 L xs s s.heap ∧ a0 < b0 → f_L_law_b2787 L xs k28 h a0 a1 a2 a3 a4 v5 = some (r, hh, C9, S9) → cells + C9 = mc ∧ slots + S9 = ms → zM D dA b0 gs s h H locs → ∀ ls : Array Slot, lv_has ls 9 [(0, .ref a0), (1, .ref a1), (2, .ref a2), (3, .ref a3), (4, .ref a4), (5, .int v5)] → W p l e ({ frames := 16, cells := mc, slots := ms, locals := 3214 } : Room) s m args below meth c H locs cells slots Q (F0 m 2787 ls []) := by
  have hx := hc.x
  have hb := hc.b
  intro h a0 a1 a2 a3 a4 v5 C9 S9 H locs cells slots hX hf hq hn ls hl
  unfold f_L_law_b2787 at hf
  refine lv_goto (tgt := 3450) hx hb dL_law_2787 (by decide) ?_
  exact m_L_law_b3450 hc hr hin hl0 hZ k28 hk28 h a0 a1 a2 a3 a4 v5 _ _ _ _ _ _ hX hf hq hn _ (lv_sub hl [0, 1, 2, 3, 4, 5] rfl)
set_option maxHeartbeats 4000000 in
set_option maxRecDepth 100000 in
theorem m_L_law_b2710 {p : Program} {l : Launch} {e : Env} {s : State} {m : MethodId} {args : Array Value} {below : List Frame} {meth : Method} {c : Code} {D : va_G} {dA : Nat → ClassId} {b0 : Nat} {gs : Nat → Option Nat} (hc : zC D dA b0 gs x.cls cL_law 9 p c s m args meth) (hr : meth.sig.returnType = ret) (hin : meth.name = x.name) {r : Int32} {hh : PH} {mc ms : Nat} {L : Nat} {xs : Nat → Int32} (hl0 : l.stackTraces = false) {Q : State → Prop} (hZ : ∀ (pc : Nat) (ls : Array Slot) (H : Heap) (locs : List Loc), decode cL_law pc = .ok (.ireturn, 1) → zM D dA b0 gs s hh H locs → W p l e ({ frames := 16, cells := mc, slots := ms, locals := 3214 } : Room) s m args below meth c H locs mc ms Q (F0 m pc ls [.int r])) (k28 : PH → Nat → Nat → Nat → Nat → Nat → Int32 → ZR Int32) (hk28 : ∀ (h : PH) (a0 : Nat) (a1 : Nat) (a2 : Nat) (a3 : Nat) (a4 : Nat) (v5 : Int32) (C9 S9 : Nat) (H : Heap) (locs : List Loc) (cells slots : Nat), va_X a0 L xs s s.heap ∧ a0 < b0 → k28 h a0 a1 a2 a3 a4 v5 = some (r, hh, C9, S9) → cells + C9 = mc ∧ slots + S9 = ms → zM D dA b0 gs s h H locs → ∀ ls : Array Slot, lv_has ls 9 [(0, .ref a0), (1, .ref a1), (2, .ref a2), (3, .ref a3), (4, .ref a4), (5, .int v5)] → W p l e ({ frames := 16, cells := mc, slots := ms, locals := 3214 } : Room) s m args below meth c H locs cells slots Q (F0 m 28 ls [])) : ∀ (h : PH) (a0 : Nat) (a1 : Nat) (a2 : Nat) (a3 : Nat) (a4 : Nat) (v5 : Int32) (C9 S9 : Nat) (H : Heap) (locs : List Loc) (cells slots : Nat), va_X a0 L xs s s.heap ∧ a0 < b0 → f_L_law_b2710 L xs k28 h a0 a1 a2 a3 a4 v5 = some (r, hh, C9, S9) → cells + C9 = mc ∧ slots + S9 = ms → zM D dA b0 gs s h H locs → ∀ ls : Array Slot, lv_has ls 9 [(0, .ref a0), (1, .ref a1), (2, .ref a2), (3, .ref a3), (4, .ref a4), (5, .int v5)] → W p l e ({ frames := 16, cells := mc, slots := ms, locals := 3214 } : Room) s m args below meth c H locs cells slots Q (F0 m 2710 ls []) := by
  have hx := hc.x
  have hb := hc.b
  intro h a0 a1 a2 a3 a4 v5 C9 S9 H locs cells slots hX hf hq hn ls hl
  unfold f_L_law_b2710 at hf
  refine lv_aload_n (x := a1) hx hb dL_law_2710 rfl (lv_at hl 1 rfl) ?_
  refine lv_aload_n (x := a0) hx hb dL_law_2711 rfl (lv_at hl 0 rfl) ?_
  refine lv_iload hx hb dL_law_2712 (lv_at hl 5 rfl) ?_
  refine lv_iconst (v := (1 : Int32)) hx hb dL_law_2714 (by decide) ?_
  refine lv_iadd hx hb dL_law_2715 ?_
  refine zr_nmI hf (fun x101 hf => ?_)
  refine zr_xld hc hn hX hf dL_law_2716 (fun x102 hf => ?_)
  refine lv_aload_n (x := a0) hx hb dL_law_2717 rfl (lv_at hl 0 rfl) ?_
  refine lv_iload hx hb dL_law_2718 (lv_at hl 5 rfl) ?_
  refine lv_iconst (v := (2 : Int32)) hx hb dL_law_2720 (by decide) ?_
  refine lv_iadd hx hb dL_law_2721 ?_
  refine zr_nmI hf (fun x103 hf => ?_)
  refine zr_xld hc hn hX hf dL_law_2722 (fun x104 hf => ?_)
  refine lv_aload_n (x := a0) hx hb dL_law_2723 rfl (lv_at hl 0 rfl) ?_
  refine lv_iload hx hb dL_law_2724 (lv_at hl 5 rfl) ?_
  refine lv_iconst (v := (3 : Int32)) hx hb dL_law_2726 (by decide) ?_
  refine lv_iadd hx hb dL_law_2727 ?_
  refine zr_nmI hf (fun x105 hf => ?_)
  refine zr_xld hc hn hX hf dL_law_2728 (fun x106 hf => ?_)
  refine lv_aload_n (x := a3) hx hb dL_law_2729 rfl (lv_at hl 3 rfl) ?_
  refine zr_cSWI (As := [.ref a1, .int x102, .int x104, .int x106, .ref a3]) (rest := []) hc hn hq hd_X0_insert (lw_SW q1968 q1969 q83 q1970) (Nat.le_of_ble_eq_true rfl) (Nat.le_of_ble_eq_true rfl) (fun _ _ _ _ q => m_X0_insert l hl0 D dA b0 gs h a1 x102 x104 x106 a3 q) hf dL_law_2730 hl.1 rfl rfl (zroom (Nat.le_of_ble_eq_true rfl)) (fun x107 h108 H locs cells slots C9 S9 hf hq hn => ?_)
  refine lv_istore (lv' := [(6, .int x107), (0, .ref a0), (1, .ref a1), (2, .ref a2), (3, .ref a3), (4, .ref a4), (5, .int v5)]) hx hb dL_law_2733 hl (by decide) rfl (fun ls hl => ?_)
  refine lv_aload_n (x := a2) hx hb dL_law_2735 rfl (lv_at hl 3 rfl) ?_
  refine lv_aload_n (x := a0) hx hb dL_law_2736 rfl (lv_at hl 1 rfl) ?_
  refine lv_iload hx hb dL_law_2737 (lv_at hl 6 rfl) ?_
  refine lv_iconst (v := (1 : Int32)) hx hb dL_law_2739 (by decide) ?_
  refine lv_iadd hx hb dL_law_2740 ?_
  refine zr_nmI hf (fun x109 hf => ?_)
  refine zr_xld hc hn hX hf dL_law_2741 (fun x110 hf => ?_)
  refine lv_aload_n (x := a0) hx hb dL_law_2742 rfl (lv_at hl 1 rfl) ?_
  refine lv_iload hx hb dL_law_2743 (lv_at hl 6 rfl) ?_
  refine lv_iconst (v := (2 : Int32)) hx hb dL_law_2745 (by decide) ?_
  refine lv_iadd hx hb dL_law_2746 ?_
  refine zr_nmI hf (fun x111 hf => ?_)
  refine zr_xld hc hn hX hf dL_law_2747 (fun x112 hf => ?_)
  refine lv_aload_n (x := a0) hx hb dL_law_2748 rfl (lv_at hl 1 rfl) ?_
  refine lv_iload hx hb dL_law_2749 (lv_at hl 6 rfl) ?_
  refine lv_iconst (v := (3 : Int32)) hx hb dL_law_2751 (by decide) ?_
  refine lv_iadd hx hb dL_law_2752 ?_
  refine zr_nmI hf (fun x113 hf => ?_)
  refine zr_xld hc hn hX hf dL_law_2753 (fun x114 hf => ?_)
  refine zr_cVI (As := [.int x110, .int x112, .int x114]) (rest := []) hc hn hq (ci := 3) rfl ⟨rfl, hd_X4_insert⟩ (lw_V q2581 q2582 q2583 q91 q2584) (Nat.le_of_ble_eq_true rfl) (Nat.le_of_ble_eq_true rfl) (fun _ _ _ _ q => m_X4_insert l D dA b0 gs h108 a2 x110 x112 x114 q) hf dL_law_2754 hl.1 rfl rfl (zroom (Nat.le_of_ble_eq_true rfl)) (fun x115 h116 H locs cells slots C9 S9 hf hq hn => ?_)
  refine lv_istore (lv' := [(7, .int x115), (6, .int x107), (0, .ref a0), (1, .ref a1), (2, .ref a2), (3, .ref a3), (4, .ref a4), (5, .int v5)]) hx hb dL_law_2757 hl (by decide) rfl (fun ls hl => ?_)
  refine lv_aload_n (x := a2) hx hb dL_law_2759 rfl (lv_at hl 4 rfl) ?_
  refine zr_cVI (As := []) (rest := []) hc hn hq (ci := 3) rfl ⟨rfl, hd_X4_thrown⟩ (lw_V q2195 q2196 q2197 q91 q2198) (Nat.le_of_ble_eq_true rfl) (Nat.le_of_ble_eq_true rfl) (fun _ _ _ _ q => m_X4_thrown l D dA b0 gs h116 a2 q) hf dL_law_2760 hl.1 rfl rfl (zroom (Nat.le_of_ble_eq_true rfl)) (fun x117 h118 H locs cells slots C9 S9 hf hq hn => ?_)
  refine lv_iload hx hb dL_law_2763 (lv_at hl 1 rfl) ?_
  refine lv_icmp_eq (tgt := 2770) hx hb dL_law_2765 (by decide) (fun c9 => ?_) (fun c9 => ?_)
  · have hf := zif_t c9 hf
    refine lv_iload hx hb dL_law_2770 (lv_at hl 1 rfl) ?_
    refine lv_if_ne (tgt := 2787) hx hb dL_law_2772 (by decide) (fun c9 => ?_) (fun c9 => ?_)
    · have hf := zif_f c9 hf
      exact m_L_law_b2787 hc hr hin hl0 hZ k28 hk28 h118 a0 a1 a2 a3 a4 v5 _ _ _ _ _ _ hX hf hq hn _ (lv_sub hl [2, 3, 4, 5, 6, 7] rfl)
    · have hf := zif_t c9 hf
      refine lv_aload_n (x := a3) hx hb dL_law_2775 rfl (lv_at hl 5 rfl) ?_
      refine lv_iconst (v := (0 : Int32)) hx hb dL_law_2776 (by decide) ?_
      refine zr_aL hc hn hf dL_law_2777 (fun x119 hf => ?_)
      refine lv_iload hx hb dL_law_2778 (lv_at hl 0 rfl) ?_
      refine lv_i2l (v := x115.toInt64) hx hb dL_law_2780 rfl ?_
      refine zr_nmL hf (fun x120 hf => ?_)
      refine W.lcmp hx hb dL_law_2781 ?_
      refine zr_nmI hf (fun x121 hf => ?_)
      refine lv_if_eq (tgt := 2787) hx hb dL_law_2782 (by decide) (fun c9 => ?_) (fun c9 => ?_)
      · have hf := zif_t c9 hf
        exact m_L_law_b2787 hc hr hin hl0 hZ k28 hk28 h118 a0 a1 a2 a3 a4 v5 _ _ _ _ _ _ hX hf hq hn _ (lv_sub hl [2, 3, 4, 5, 6, 7] rfl)
      · have hf := zif_f c9 hf
        refine lv_iconst (v := (0 : Int32)) hx hb dL_law_2785 (by decide) ?_
        obtain ⟨rfl, rfl, rfl, rfl⟩ := zret_i hf
        obtain ⟨hq1, hq2⟩ := hq
        subst hq1
        subst hq2
        exact hZ _ _ _ _ dL_law_2786 hn
  · have hf := zif_f c9 hf
    refine lv_iconst (v := (0 : Int32)) hx hb dL_law_2768 (by decide) ?_
    obtain ⟨rfl, rfl, rfl, rfl⟩ := zret_i hf
    obtain ⟨hq1, hq2⟩ := hq
    subst hq1
    subst hq2
    exact hZ _ _ _ _ dL_law_2769 hn
set_option maxHeartbeats 4000000 in
set_option maxRecDepth 100000 in
theorem m_L_law_b2855 {p : Program} {l : Launch} {e : Env} {s : State} {m : MethodId} {args : Array Value} {below : List Frame} {meth : Method} {c : Code} {D : va_G} {dA : Nat → ClassId} {b0 : Nat} {gs : Nat → Option Nat} (hc : zC D dA b0 gs x.cls cL_law 9 p c s m args meth) (hr : meth.sig.returnType = ret) (hin : meth.name = x.name) {r : Int32} {hh : PH} {mc ms : Nat} {L : Nat} {xs : Nat → Int32} (hl0 : l.stackTraces = false) {Q : State → Prop} (hZ : ∀ (pc : Nat) (ls : Array Slot) (H : Heap) (locs : List Loc), decode cL_law pc = .ok (.ireturn, 1) → zM D dA b0 gs s hh H locs → W p l e ({ frames := 16, cells := mc, slots := ms, locals := 3214 } : Room) s m args below meth c H locs mc ms Q (F0 m pc ls [.int r])) (k28 : PH → Nat → Nat → Nat → Nat → Nat → Int32 → ZR Int32) (hk28 : ∀ (h : PH) (a0 : Nat) (a1 : Nat) (a2 : Nat) (a3 : Nat) (a4 : Nat) (v5 : Int32) (C9 S9 : Nat) (H : Heap) (locs : List Loc) (cells slots : Nat), va_X a0 L xs s s.heap ∧ a0 < b0 → k28 h a0 a1 a2 a3 a4 v5 = some (r, hh, C9, S9) → cells + C9 = mc ∧ slots + S9 = ms → zM D dA b0 gs s h H locs → ∀ ls : Array Slot, lv_has ls 9 [(0, .ref a0), (1, .ref a1), (2, .ref a2), (3, .ref a3), (4, .ref a4), (5, .int v5)] → W p l e ({ frames := 16, cells := mc, slots := ms, locals := 3214 } : Room) s m args below meth c H locs cells slots Q (F0 m 28 ls [])) : ∀ (h : PH) (a0 : Nat) (a1 : Nat) (a2 : Nat) (a3 : Nat) (a4 : Nat) (v5 : Int32) (C9 S9 : Nat) (H : Heap) (locs : List Loc) (cells slots : Nat), va_X a0 L xs s s.heap ∧ a0 < b0 → f_L_law_b2855 L xs k28 h a0 a1 a2 a3 a4 v5 = some (r, hh, C9, S9) → cells + C9 = mc ∧ slots + S9 = ms → zM D dA b0 gs s h H locs → ∀ ls : Array Slot, lv_has ls 9 [(0, .ref a0), (1, .ref a1), (2, .ref a2), (3, .ref a3), (4, .ref a4), (5, .int v5)] → W p l e ({ frames := 16, cells := mc, slots := ms, locals := 3214 } : Room) s m args below meth c H locs cells slots Q (F0 m 2855 ls []) := by
  have hx := hc.x
  have hb := hc.b
  intro h a0 a1 a2 a3 a4 v5 C9 S9 H locs cells slots hX hf hq hn ls hl
  unfold f_L_law_b2855 at hf
  refine lv_goto (tgt := 3450) hx hb dL_law_2855 (by decide) ?_
  exact m_L_law_b3450 hc hr hin hl0 hZ k28 hk28 h a0 a1 a2 a3 a4 v5 _ _ _ _ _ _ hX hf hq hn _ (lv_sub hl [0, 1, 2, 3, 4, 5] rfl)
set_option maxHeartbeats 4000000 in
set_option maxRecDepth 100000 in
theorem m_L_law_b2790 {p : Program} {l : Launch} {e : Env} {s : State} {m : MethodId} {args : Array Value} {below : List Frame} {meth : Method} {c : Code} {D : va_G} {dA : Nat → ClassId} {b0 : Nat} {gs : Nat → Option Nat} (hc : zC D dA b0 gs x.cls cL_law 9 p c s m args meth) (hr : meth.sig.returnType = ret) (hin : meth.name = x.name) {r : Int32} {hh : PH} {mc ms : Nat} {L : Nat} {xs : Nat → Int32} (hl0 : l.stackTraces = false) {Q : State → Prop} (hZ : ∀ (pc : Nat) (ls : Array Slot) (H : Heap) (locs : List Loc), decode cL_law pc = .ok (.ireturn, 1) → zM D dA b0 gs s hh H locs → W p l e ({ frames := 16, cells := mc, slots := ms, locals := 3214 } : Room) s m args below meth c H locs mc ms Q (F0 m pc ls [.int r])) (k28 : PH → Nat → Nat → Nat → Nat → Nat → Int32 → ZR Int32) (hk28 : ∀ (h : PH) (a0 : Nat) (a1 : Nat) (a2 : Nat) (a3 : Nat) (a4 : Nat) (v5 : Int32) (C9 S9 : Nat) (H : Heap) (locs : List Loc) (cells slots : Nat), va_X a0 L xs s s.heap ∧ a0 < b0 → k28 h a0 a1 a2 a3 a4 v5 = some (r, hh, C9, S9) → cells + C9 = mc ∧ slots + S9 = ms → zM D dA b0 gs s h H locs → ∀ ls : Array Slot, lv_has ls 9 [(0, .ref a0), (1, .ref a1), (2, .ref a2), (3, .ref a3), (4, .ref a4), (5, .int v5)] → W p l e ({ frames := 16, cells := mc, slots := ms, locals := 3214 } : Room) s m args below meth c H locs cells slots Q (F0 m 28 ls [])) : ∀ (h : PH) (a0 : Nat) (a1 : Nat) (a2 : Nat) (a3 : Nat) (a4 : Nat) (v5 : Int32) (C9 S9 : Nat) (H : Heap) (locs : List Loc) (cells slots : Nat), va_X a0 L xs s s.heap ∧ a0 < b0 → f_L_law_b2790 L xs k28 h a0 a1 a2 a3 a4 v5 = some (r, hh, C9, S9) → cells + C9 = mc ∧ slots + S9 = ms → zM D dA b0 gs s h H locs → ∀ ls : Array Slot, lv_has ls 9 [(0, .ref a0), (1, .ref a1), (2, .ref a2), (3, .ref a3), (4, .ref a4), (5, .int v5)] → W p l e ({ frames := 16, cells := mc, slots := ms, locals := 3214 } : Room) s m args below meth c H locs cells slots Q (F0 m 2790 ls []) := by
  have hx := hc.x
  have hb := hc.b
  intro h a0 a1 a2 a3 a4 v5 C9 S9 H locs cells slots hX hf hq hn ls hl
  unfold f_L_law_b2790 at hf
  refine lv_aload_n (x := a1) hx hb dL_law_2790 rfl (lv_at hl 1 rfl) ?_
  refine lv_aload_n (x := a0) hx hb dL_law_2791 rfl (lv_at hl 0 rfl) ?_
  refine lv_iload hx hb dL_law_2792 (lv_at hl 5 rfl) ?_
  refine lv_iconst (v := (1 : Int32)) hx hb dL_law_2794 (by decide) ?_
  refine lv_iadd hx hb dL_law_2795 ?_
  refine zr_nmI hf (fun x101 hf => ?_)
  refine zr_xld hc hn hX hf dL_law_2796 (fun x102 hf => ?_)
  refine lv_aload_n (x := a0) hx hb dL_law_2797 rfl (lv_at hl 0 rfl) ?_
  refine lv_iload hx hb dL_law_2798 (lv_at hl 5 rfl) ?_
  refine lv_iconst (v := (2 : Int32)) hx hb dL_law_2800 (by decide) ?_
  refine lv_iadd hx hb dL_law_2801 ?_
  refine zr_nmI hf (fun x103 hf => ?_)
  refine zr_xld hc hn hX hf dL_law_2802 (fun x104 hf => ?_)
  refine lv_aload_n (x := a3) hx hb dL_law_2803 rfl (lv_at hl 3 rfl) ?_
  refine zr_cSWI (As := [.ref a1, .int x102, .int x104, .ref a3]) (rest := []) hc hn hq hd_X0_remove (lw_SW q1984 q1985 q83 q1986) (Nat.le_of_ble_eq_true rfl) (Nat.le_of_ble_eq_true rfl) (fun _ _ _ _ q => m_X0_remove l hl0 D dA b0 gs h a1 x102 x104 a3 q) hf dL_law_2804 hl.1 rfl rfl (zroom (Nat.le_of_ble_eq_true rfl)) (fun x105 h106 H locs cells slots C9 S9 hf hq hn => ?_)
  refine lv_istore (lv' := [(6, .int x105), (0, .ref a0), (1, .ref a1), (2, .ref a2), (3, .ref a3), (4, .ref a4), (5, .int v5)]) hx hb dL_law_2807 hl (by decide) rfl (fun ls hl => ?_)
  refine lv_aload_n (x := a2) hx hb dL_law_2809 rfl (lv_at hl 3 rfl) ?_
  refine lv_aload_n (x := a0) hx hb dL_law_2810 rfl (lv_at hl 1 rfl) ?_
  refine lv_iload hx hb dL_law_2811 (lv_at hl 6 rfl) ?_
  refine lv_iconst (v := (1 : Int32)) hx hb dL_law_2813 (by decide) ?_
  refine lv_iadd hx hb dL_law_2814 ?_
  refine zr_nmI hf (fun x107 hf => ?_)
  refine zr_xld hc hn hX hf dL_law_2815 (fun x108 hf => ?_)
  refine lv_aload_n (x := a0) hx hb dL_law_2816 rfl (lv_at hl 1 rfl) ?_
  refine lv_iload hx hb dL_law_2817 (lv_at hl 6 rfl) ?_
  refine lv_iconst (v := (2 : Int32)) hx hb dL_law_2819 (by decide) ?_
  refine lv_iadd hx hb dL_law_2820 ?_
  refine zr_nmI hf (fun x109 hf => ?_)
  refine zr_xld hc hn hX hf dL_law_2821 (fun x110 hf => ?_)
  refine zr_cVI (As := [.int x108, .int x110]) (rest := []) hc hn hq (ci := 3) rfl ⟨rfl, hd_X4_remove⟩ (lw_V q2585 q2586 q2587 q91 q2588) (Nat.le_of_ble_eq_true rfl) (Nat.le_of_ble_eq_true rfl) (fun _ _ _ _ q => m_X4_remove l D dA b0 gs h106 a2 x108 x110 q) hf dL_law_2822 hl.1 rfl rfl (zroom (Nat.le_of_ble_eq_true rfl)) (fun x111 h112 H locs cells slots C9 S9 hf hq hn => ?_)
  refine lv_istore (lv' := [(7, .int x111), (6, .int x105), (0, .ref a0), (1, .ref a1), (2, .ref a2), (3, .ref a3), (4, .ref a4), (5, .int v5)]) hx hb dL_law_2825 hl (by decide) rfl (fun ls hl => ?_)
  refine lv_aload_n (x := a2) hx hb dL_law_2827 rfl (lv_at hl 4 rfl) ?_
  refine zr_cVI (As := []) (rest := []) hc hn hq (ci := 3) rfl ⟨rfl, hd_X4_thrown⟩ (lw_V q2195 q2196 q2197 q91 q2198) (Nat.le_of_ble_eq_true rfl) (Nat.le_of_ble_eq_true rfl) (fun _ _ _ _ q => m_X4_thrown l D dA b0 gs h112 a2 q) hf dL_law_2828 hl.1 rfl rfl (zroom (Nat.le_of_ble_eq_true rfl)) (fun x113 h114 H locs cells slots C9 S9 hf hq hn => ?_)
  refine lv_iload hx hb dL_law_2831 (lv_at hl 1 rfl) ?_
  refine lv_icmp_eq (tgt := 2838) hx hb dL_law_2833 (by decide) (fun c9 => ?_) (fun c9 => ?_)
  · have hf := zif_t c9 hf
    refine lv_iload hx hb dL_law_2838 (lv_at hl 1 rfl) ?_
    refine lv_if_ne (tgt := 2855) hx hb dL_law_2840 (by decide) (fun c9 => ?_) (fun c9 => ?_)
    · have hf := zif_f c9 hf
      exact m_L_law_b2855 hc hr hin hl0 hZ k28 hk28 h114 a0 a1 a2 a3 a4 v5 _ _ _ _ _ _ hX hf hq hn _ (lv_sub hl [2, 3, 4, 5, 6, 7] rfl)
    · have hf := zif_t c9 hf
      refine lv_aload_n (x := a3) hx hb dL_law_2843 rfl (lv_at hl 5 rfl) ?_
      refine lv_iconst (v := (0 : Int32)) hx hb dL_law_2844 (by decide) ?_
      refine zr_aL hc hn hf dL_law_2845 (fun x115 hf => ?_)
      refine lv_iload hx hb dL_law_2846 (lv_at hl 0 rfl) ?_
      refine lv_i2l (v := x111.toInt64) hx hb dL_law_2848 rfl ?_
      refine zr_nmL hf (fun x116 hf => ?_)
      refine W.lcmp hx hb dL_law_2849 ?_
      refine zr_nmI hf (fun x117 hf => ?_)
      refine lv_if_eq (tgt := 2855) hx hb dL_law_2850 (by decide) (fun c9 => ?_) (fun c9 => ?_)
      · have hf := zif_t c9 hf
        exact m_L_law_b2855 hc hr hin hl0 hZ k28 hk28 h114 a0 a1 a2 a3 a4 v5 _ _ _ _ _ _ hX hf hq hn _ (lv_sub hl [2, 3, 4, 5, 6, 7] rfl)
      · have hf := zif_f c9 hf
        refine lv_iconst (v := (0 : Int32)) hx hb dL_law_2853 (by decide) ?_
        obtain ⟨rfl, rfl, rfl, rfl⟩ := zret_i hf
        obtain ⟨hq1, hq2⟩ := hq
        subst hq1
        subst hq2
        exact hZ _ _ _ _ dL_law_2854 hn
  · have hf := zif_f c9 hf
    refine lv_iconst (v := (0 : Int32)) hx hb dL_law_2836 (by decide) ?_
    obtain ⟨rfl, rfl, rfl, rfl⟩ := zret_i hf
    obtain ⟨hq1, hq2⟩ := hq
    subst hq1
    subst hq2
    exact hZ _ _ _ _ dL_law_2837 hn
set_option maxHeartbeats 4000000 in
set_option maxRecDepth 100000 in
theorem m_L_law_b2935 {p : Program} {l : Launch} {e : Env} {s : State} {m : MethodId} {args : Array Value} {below : List Frame} {meth : Method} {c : Code} {D : va_G} {dA : Nat → ClassId} {b0 : Nat} {gs : Nat → Option Nat} (hc : zC D dA b0 gs x.cls cL_law 9 p c s m args meth) (hr : meth.sig.returnType = ret) (hin : meth.name = x.name) {r : Int32} {hh : PH} {mc ms : Nat} {L : Nat} {xs : Nat → Int32} (hl0 : l.stackTraces = false) {Q : State → Prop} (hZ : ∀ (pc : Nat) (ls : Array Slot) (H : Heap) (locs : List Loc), decode cL_law pc = .ok (.ireturn, 1) → zM D dA b0 gs s hh H locs → W p l e ({ frames := 16, cells := mc, slots := ms, locals := 3214 } : Room) s m args below meth c H locs mc ms Q (F0 m pc ls [.int r])) (k28 : PH → Nat → Nat → Nat → Nat → Nat → Int32 → ZR Int32) (hk28 : ∀ (h : PH) (a0 : Nat) (a1 : Nat) (a2 : Nat) (a3 : Nat) (a4 : Nat) (v5 : Int32) (C9 S9 : Nat) (H : Heap) (locs : List Loc) (cells slots : Nat), va_X a0 L xs s s.heap ∧ a0 < b0 → k28 h a0 a1 a2 a3 a4 v5 = some (r, hh, C9, S9) → cells + C9 = mc ∧ slots + S9 = ms → zM D dA b0 gs s h H locs → ∀ ls : Array Slot, lv_has ls 9 [(0, .ref a0), (1, .ref a1), (2, .ref a2), (3, .ref a3), (4, .ref a4), (5, .int v5)] → W p l e ({ frames := 16, cells := mc, slots := ms, locals := 3214 } : Room) s m args below meth c H locs cells slots Q (F0 m 28 ls [])) : ∀ (h : PH) (a0 : Nat) (a1 : Nat) (a2 : Nat) (a3 : Nat) (a4 : Nat) (v5 : Int32) (C9 S9 : Nat) (H : Heap) (locs : List Loc) (cells slots : Nat), va_X a0 L xs s s.heap ∧ a0 < b0 → f_L_law_b2935 L xs k28 h a0 a1 a2 a3 a4 v5 = some (r, hh, C9, S9) → cells + C9 = mc ∧ slots + S9 = ms → zM D dA b0 gs s h H locs → ∀ ls : Array Slot, lv_has ls 9 [(0, .ref a0), (1, .ref a1), (2, .ref a2), (3, .ref a3), (4, .ref a4), (5, .int v5)] → W p l e ({ frames := 16, cells := mc, slots := ms, locals := 3214 } : Room) s m args below meth c H locs cells slots Q (F0 m 2935 ls []) := by
  have hx := hc.x
  have hb := hc.b
  intro h a0 a1 a2 a3 a4 v5 C9 S9 H locs cells slots hX hf hq hn ls hl
  unfold f_L_law_b2935 at hf
  refine lv_goto (tgt := 3450) hx hb dL_law_2935 (by decide) ?_
  exact m_L_law_b3450 hc hr hin hl0 hZ k28 hk28 h a0 a1 a2 a3 a4 v5 _ _ _ _ _ _ hX hf hq hn _ (lv_sub hl [0, 1, 2, 3, 4, 5] rfl)
set_option maxHeartbeats 4000000 in
set_option maxRecDepth 100000 in
theorem m_L_law_b2858 {p : Program} {l : Launch} {e : Env} {s : State} {m : MethodId} {args : Array Value} {below : List Frame} {meth : Method} {c : Code} {D : va_G} {dA : Nat → ClassId} {b0 : Nat} {gs : Nat → Option Nat} (hc : zC D dA b0 gs x.cls cL_law 9 p c s m args meth) (hr : meth.sig.returnType = ret) (hin : meth.name = x.name) {r : Int32} {hh : PH} {mc ms : Nat} {L : Nat} {xs : Nat → Int32} (hl0 : l.stackTraces = false) {Q : State → Prop} (hZ : ∀ (pc : Nat) (ls : Array Slot) (H : Heap) (locs : List Loc), decode cL_law pc = .ok (.ireturn, 1) → zM D dA b0 gs s hh H locs → W p l e ({ frames := 16, cells := mc, slots := ms, locals := 3214 } : Room) s m args below meth c H locs mc ms Q (F0 m pc ls [.int r])) (k28 : PH → Nat → Nat → Nat → Nat → Nat → Int32 → ZR Int32) (hk28 : ∀ (h : PH) (a0 : Nat) (a1 : Nat) (a2 : Nat) (a3 : Nat) (a4 : Nat) (v5 : Int32) (C9 S9 : Nat) (H : Heap) (locs : List Loc) (cells slots : Nat), va_X a0 L xs s s.heap ∧ a0 < b0 → k28 h a0 a1 a2 a3 a4 v5 = some (r, hh, C9, S9) → cells + C9 = mc ∧ slots + S9 = ms → zM D dA b0 gs s h H locs → ∀ ls : Array Slot, lv_has ls 9 [(0, .ref a0), (1, .ref a1), (2, .ref a2), (3, .ref a3), (4, .ref a4), (5, .int v5)] → W p l e ({ frames := 16, cells := mc, slots := ms, locals := 3214 } : Room) s m args below meth c H locs cells slots Q (F0 m 28 ls [])) : ∀ (h : PH) (a0 : Nat) (a1 : Nat) (a2 : Nat) (a3 : Nat) (a4 : Nat) (v5 : Int32) (C9 S9 : Nat) (H : Heap) (locs : List Loc) (cells slots : Nat), va_X a0 L xs s s.heap ∧ a0 < b0 → f_L_law_b2858 L xs k28 h a0 a1 a2 a3 a4 v5 = some (r, hh, C9, S9) → cells + C9 = mc ∧ slots + S9 = ms → zM D dA b0 gs s h H locs → ∀ ls : Array Slot, lv_has ls 9 [(0, .ref a0), (1, .ref a1), (2, .ref a2), (3, .ref a3), (4, .ref a4), (5, .int v5)] → W p l e ({ frames := 16, cells := mc, slots := ms, locals := 3214 } : Room) s m args below meth c H locs cells slots Q (F0 m 2858 ls []) := by
  have hx := hc.x
  have hb := hc.b
  intro h a0 a1 a2 a3 a4 v5 C9 S9 H locs cells slots hX hf hq hn ls hl
  unfold f_L_law_b2858 at hf
  refine lv_aload_n (x := a1) hx hb dL_law_2858 rfl (lv_at hl 1 rfl) ?_
  refine lv_aload_n (x := a0) hx hb dL_law_2859 rfl (lv_at hl 0 rfl) ?_
  refine lv_iload hx hb dL_law_2860 (lv_at hl 5 rfl) ?_
  refine lv_iconst (v := (1 : Int32)) hx hb dL_law_2862 (by decide) ?_
  refine lv_iadd hx hb dL_law_2863 ?_
  refine zr_nmI hf (fun x101 hf => ?_)
  refine zr_xld hc hn hX hf dL_law_2864 (fun x102 hf => ?_)
  refine lv_aload_n (x := a0) hx hb dL_law_2865 rfl (lv_at hl 0 rfl) ?_
  refine lv_iload hx hb dL_law_2866 (lv_at hl 5 rfl) ?_
  refine lv_iconst (v := (2 : Int32)) hx hb dL_law_2868 (by decide) ?_
  refine lv_iadd hx hb dL_law_2869 ?_
  refine zr_nmI hf (fun x103 hf => ?_)
  refine zr_xld hc hn hX hf dL_law_2870 (fun x104 hf => ?_)
  refine lv_aload_n (x := a0) hx hb dL_law_2871 rfl (lv_at hl 0 rfl) ?_
  refine lv_iload hx hb dL_law_2872 (lv_at hl 5 rfl) ?_
  refine lv_iconst (v := (3 : Int32)) hx hb dL_law_2874 (by decide) ?_
  refine lv_iadd hx hb dL_law_2875 ?_
  refine zr_nmI hf (fun x105 hf => ?_)
  refine zr_xld hc hn hX hf dL_law_2876 (fun x106 hf => ?_)
  refine lv_aload_n (x := a3) hx hb dL_law_2877 rfl (lv_at hl 3 rfl) ?_
  refine zr_cSWI (As := [.ref a1, .int x102, .int x104, .int x106, .ref a3]) (rest := []) hc hn hq hd_X0_setValue (lw_SW q1991 q1992 q83 q1993) (Nat.le_of_ble_eq_true rfl) (Nat.le_of_ble_eq_true rfl) (fun _ _ _ _ q => m_X0_setValue l hl0 D dA b0 gs h a1 x102 x104 x106 a3 q) hf dL_law_2878 hl.1 rfl rfl (zroom (Nat.le_of_ble_eq_true rfl)) (fun x107 h108 H locs cells slots C9 S9 hf hq hn => ?_)
  refine lv_istore (lv' := [(6, .int x107), (0, .ref a0), (1, .ref a1), (2, .ref a2), (3, .ref a3), (4, .ref a4), (5, .int v5)]) hx hb dL_law_2881 hl (by decide) rfl (fun ls hl => ?_)
  refine lv_aload_n (x := a2) hx hb dL_law_2883 rfl (lv_at hl 3 rfl) ?_
  refine lv_aload_n (x := a0) hx hb dL_law_2884 rfl (lv_at hl 1 rfl) ?_
  refine lv_iload hx hb dL_law_2885 (lv_at hl 6 rfl) ?_
  refine lv_iconst (v := (1 : Int32)) hx hb dL_law_2887 (by decide) ?_
  refine lv_iadd hx hb dL_law_2888 ?_
  refine zr_nmI hf (fun x109 hf => ?_)
  refine zr_xld hc hn hX hf dL_law_2889 (fun x110 hf => ?_)
  refine lv_aload_n (x := a0) hx hb dL_law_2890 rfl (lv_at hl 1 rfl) ?_
  refine lv_iload hx hb dL_law_2891 (lv_at hl 6 rfl) ?_
  refine lv_iconst (v := (2 : Int32)) hx hb dL_law_2893 (by decide) ?_
  refine lv_iadd hx hb dL_law_2894 ?_
  refine zr_nmI hf (fun x111 hf => ?_)
  refine zr_xld hc hn hX hf dL_law_2895 (fun x112 hf => ?_)
  refine lv_aload_n (x := a0) hx hb dL_law_2896 rfl (lv_at hl 1 rfl) ?_
  refine lv_iload hx hb dL_law_2897 (lv_at hl 6 rfl) ?_
  refine lv_iconst (v := (3 : Int32)) hx hb dL_law_2899 (by decide) ?_
  refine lv_iadd hx hb dL_law_2900 ?_
  refine zr_nmI hf (fun x113 hf => ?_)
  refine zr_xld hc hn hX hf dL_law_2901 (fun x114 hf => ?_)
  refine zr_cVI (As := [.int x110, .int x112, .int x114]) (rest := []) hc hn hq (ci := 3) rfl ⟨rfl, hd_X4_setValue⟩ (lw_V q2589 q2590 q2591 q91 q2592) (Nat.le_of_ble_eq_true rfl) (Nat.le_of_ble_eq_true rfl) (fun _ _ _ _ q => m_X4_setValue l D dA b0 gs h108 a2 x110 x112 x114 q) hf dL_law_2902 hl.1 rfl rfl (zroom (Nat.le_of_ble_eq_true rfl)) (fun x115 h116 H locs cells slots C9 S9 hf hq hn => ?_)
  refine lv_istore (lv' := [(7, .int x115), (6, .int x107), (0, .ref a0), (1, .ref a1), (2, .ref a2), (3, .ref a3), (4, .ref a4), (5, .int v5)]) hx hb dL_law_2905 hl (by decide) rfl (fun ls hl => ?_)
  refine lv_aload_n (x := a2) hx hb dL_law_2907 rfl (lv_at hl 4 rfl) ?_
  refine zr_cVI (As := []) (rest := []) hc hn hq (ci := 3) rfl ⟨rfl, hd_X4_thrown⟩ (lw_V q2195 q2196 q2197 q91 q2198) (Nat.le_of_ble_eq_true rfl) (Nat.le_of_ble_eq_true rfl) (fun _ _ _ _ q => m_X4_thrown l D dA b0 gs h116 a2 q) hf dL_law_2908 hl.1 rfl rfl (zroom (Nat.le_of_ble_eq_true rfl)) (fun x117 h118 H locs cells slots C9 S9 hf hq hn => ?_)
  refine lv_iload hx hb dL_law_2911 (lv_at hl 1 rfl) ?_
  refine lv_icmp_eq (tgt := 2918) hx hb dL_law_2913 (by decide) (fun c9 => ?_) (fun c9 => ?_)
  · have hf := zif_t c9 hf
    refine lv_iload hx hb dL_law_2918 (lv_at hl 1 rfl) ?_
    refine lv_if_ne (tgt := 2935) hx hb dL_law_2920 (by decide) (fun c9 => ?_) (fun c9 => ?_)
    · have hf := zif_f c9 hf
      exact m_L_law_b2935 hc hr hin hl0 hZ k28 hk28 h118 a0 a1 a2 a3 a4 v5 _ _ _ _ _ _ hX hf hq hn _ (lv_sub hl [2, 3, 4, 5, 6, 7] rfl)
    · have hf := zif_t c9 hf
      refine lv_aload_n (x := a3) hx hb dL_law_2923 rfl (lv_at hl 5 rfl) ?_
      refine lv_iconst (v := (0 : Int32)) hx hb dL_law_2924 (by decide) ?_
      refine zr_aL hc hn hf dL_law_2925 (fun x119 hf => ?_)
      refine lv_iload hx hb dL_law_2926 (lv_at hl 0 rfl) ?_
      refine lv_i2l (v := x115.toInt64) hx hb dL_law_2928 rfl ?_
      refine zr_nmL hf (fun x120 hf => ?_)
      refine W.lcmp hx hb dL_law_2929 ?_
      refine zr_nmI hf (fun x121 hf => ?_)
      refine lv_if_eq (tgt := 2935) hx hb dL_law_2930 (by decide) (fun c9 => ?_) (fun c9 => ?_)
      · have hf := zif_t c9 hf
        exact m_L_law_b2935 hc hr hin hl0 hZ k28 hk28 h118 a0 a1 a2 a3 a4 v5 _ _ _ _ _ _ hX hf hq hn _ (lv_sub hl [2, 3, 4, 5, 6, 7] rfl)
      · have hf := zif_f c9 hf
        refine lv_iconst (v := (0 : Int32)) hx hb dL_law_2933 (by decide) ?_
        obtain ⟨rfl, rfl, rfl, rfl⟩ := zret_i hf
        obtain ⟨hq1, hq2⟩ := hq
        subst hq1
        subst hq2
        exact hZ _ _ _ _ dL_law_2934 hn
  · have hf := zif_f c9 hf
    refine lv_iconst (v := (0 : Int32)) hx hb dL_law_2916 (by decide) ?_
    obtain ⟨rfl, rfl, rfl, rfl⟩ := zret_i hf
    obtain ⟨hq1, hq2⟩ := hq
    subst hq1
    subst hq2
    exact hZ _ _ _ _ dL_law_2917 hn
set_option maxHeartbeats 4000000 in
set_option maxRecDepth 100000 in
theorem m_L_law_b3003 {p : Program} {l : Launch} {e : Env} {s : State} {m : MethodId} {args : Array Value} {below : List Frame} {meth : Method} {c : Code} {D : va_G} {dA : Nat → ClassId} {b0 : Nat} {gs : Nat → Option Nat} (hc : zC D dA b0 gs x.cls cL_law 9 p c s m args meth) (hr : meth.sig.returnType = ret) (hin : meth.name = x.name) {r : Int32} {hh : PH} {mc ms : Nat} {L : Nat} {xs : Nat → Int32} (hl0 : l.stackTraces = false) {Q : State → Prop} (hZ : ∀ (pc : Nat) (ls : Array Slot) (H : Heap) (locs : List Loc), decode cL_law pc = .ok (.ireturn, 1) → zM D dA b0 gs s hh H locs → W p l e ({ frames := 16, cells := mc, slots := ms, locals := 3214 } : Room) s m args below meth c H locs mc ms Q (F0 m pc ls [.int r])) (k28 : PH → Nat → Nat → Nat → Nat → Nat → Int32 → ZR Int32) (hk28 : ∀ (h : PH) (a0 : Nat) (a1 : Nat) (a2 : Nat) (a3 : Nat) (a4 : Nat) (v5 : Int32) (C9 S9 : Nat) (H : Heap) (locs : List Loc) (cells slots : Nat), va_X a0 L xs s s.heap ∧ a0 < b0 → k28 h a0 a1 a2 a3 a4 v5 = some (r, hh, C9, S9) → cells + C9 = mc ∧ slots + S9 = ms → zM D dA b0 gs s h H locs → ∀ ls : Array Slot, lv_has ls 9 [(0, .ref a0), (1, .ref a1), (2, .ref a2), (3, .ref a3), (4, .ref a4), (5, .int v5)] → W p l e ({ frames := 16, cells := mc, slots := ms, locals := 3214 } : Room) s m args below meth c H locs cells slots Q (F0 m 28 ls [])) : ∀ (h : PH) (a0 : Nat) (a1 : Nat) (a2 : Nat) (a3 : Nat) (a4 : Nat) (v5 : Int32) (C9 S9 : Nat) (H : Heap) (locs : List Loc) (cells slots : Nat), va_X a0 L xs s s.heap ∧ a0 < b0 → f_L_law_b3003 L xs k28 h a0 a1 a2 a3 a4 v5 = some (r, hh, C9, S9) → cells + C9 = mc ∧ slots + S9 = ms → zM D dA b0 gs s h H locs → ∀ ls : Array Slot, lv_has ls 9 [(0, .ref a0), (1, .ref a1), (2, .ref a2), (3, .ref a3), (4, .ref a4), (5, .int v5)] → W p l e ({ frames := 16, cells := mc, slots := ms, locals := 3214 } : Room) s m args below meth c H locs cells slots Q (F0 m 3003 ls []) := by
  have hx := hc.x
  have hb := hc.b
  intro h a0 a1 a2 a3 a4 v5 C9 S9 H locs cells slots hX hf hq hn ls hl
  unfold f_L_law_b3003 at hf
  refine lv_goto (tgt := 3450) hx hb dL_law_3003 (by decide) ?_
  exact m_L_law_b3450 hc hr hin hl0 hZ k28 hk28 h a0 a1 a2 a3 a4 v5 _ _ _ _ _ _ hX hf hq hn _ (lv_sub hl [0, 1, 2, 3, 4, 5] rfl)
set_option maxHeartbeats 4000000 in
set_option maxRecDepth 100000 in
theorem m_L_law_b2938 {p : Program} {l : Launch} {e : Env} {s : State} {m : MethodId} {args : Array Value} {below : List Frame} {meth : Method} {c : Code} {D : va_G} {dA : Nat → ClassId} {b0 : Nat} {gs : Nat → Option Nat} (hc : zC D dA b0 gs x.cls cL_law 9 p c s m args meth) (hr : meth.sig.returnType = ret) (hin : meth.name = x.name) {r : Int32} {hh : PH} {mc ms : Nat} {L : Nat} {xs : Nat → Int32} (hl0 : l.stackTraces = false) {Q : State → Prop} (hZ : ∀ (pc : Nat) (ls : Array Slot) (H : Heap) (locs : List Loc), decode cL_law pc = .ok (.ireturn, 1) → zM D dA b0 gs s hh H locs → W p l e ({ frames := 16, cells := mc, slots := ms, locals := 3214 } : Room) s m args below meth c H locs mc ms Q (F0 m pc ls [.int r])) (k28 : PH → Nat → Nat → Nat → Nat → Nat → Int32 → ZR Int32) (hk28 : ∀ (h : PH) (a0 : Nat) (a1 : Nat) (a2 : Nat) (a3 : Nat) (a4 : Nat) (v5 : Int32) (C9 S9 : Nat) (H : Heap) (locs : List Loc) (cells slots : Nat), va_X a0 L xs s s.heap ∧ a0 < b0 → k28 h a0 a1 a2 a3 a4 v5 = some (r, hh, C9, S9) → cells + C9 = mc ∧ slots + S9 = ms → zM D dA b0 gs s h H locs → ∀ ls : Array Slot, lv_has ls 9 [(0, .ref a0), (1, .ref a1), (2, .ref a2), (3, .ref a3), (4, .ref a4), (5, .int v5)] → W p l e ({ frames := 16, cells := mc, slots := ms, locals := 3214 } : Room) s m args below meth c H locs cells slots Q (F0 m 28 ls [])) : ∀ (h : PH) (a0 : Nat) (a1 : Nat) (a2 : Nat) (a3 : Nat) (a4 : Nat) (v5 : Int32) (C9 S9 : Nat) (H : Heap) (locs : List Loc) (cells slots : Nat), va_X a0 L xs s s.heap ∧ a0 < b0 → f_L_law_b2938 L xs k28 h a0 a1 a2 a3 a4 v5 = some (r, hh, C9, S9) → cells + C9 = mc ∧ slots + S9 = ms → zM D dA b0 gs s h H locs → ∀ ls : Array Slot, lv_has ls 9 [(0, .ref a0), (1, .ref a1), (2, .ref a2), (3, .ref a3), (4, .ref a4), (5, .int v5)] → W p l e ({ frames := 16, cells := mc, slots := ms, locals := 3214 } : Room) s m args below meth c H locs cells slots Q (F0 m 2938 ls []) := by
  have hx := hc.x
  have hb := hc.b
  intro h a0 a1 a2 a3 a4 v5 C9 S9 H locs cells slots hX hf hq hn ls hl
  unfold f_L_law_b2938 at hf
  refine lv_aload_n (x := a1) hx hb dL_law_2938 rfl (lv_at hl 1 rfl) ?_
  refine lv_aload_n (x := a0) hx hb dL_law_2939 rfl (lv_at hl 0 rfl) ?_
  refine lv_iload hx hb dL_law_2940 (lv_at hl 5 rfl) ?_
  refine lv_iconst (v := (1 : Int32)) hx hb dL_law_2942 (by decide) ?_
  refine lv_iadd hx hb dL_law_2943 ?_
  refine zr_nmI hf (fun x101 hf => ?_)
  refine zr_xld hc hn hX hf dL_law_2944 (fun x102 hf => ?_)
  refine lv_aload_n (x := a0) hx hb dL_law_2945 rfl (lv_at hl 0 rfl) ?_
  refine lv_iload hx hb dL_law_2946 (lv_at hl 5 rfl) ?_
  refine lv_iconst (v := (2 : Int32)) hx hb dL_law_2948 (by decide) ?_
  refine lv_iadd hx hb dL_law_2949 ?_
  refine zr_nmI hf (fun x103 hf => ?_)
  refine zr_xld hc hn hX hf dL_law_2950 (fun x104 hf => ?_)
  refine lv_aload_n (x := a3) hx hb dL_law_2951 rfl (lv_at hl 3 rfl) ?_
  refine zr_cSWI (As := [.ref a1, .int x102, .int x104, .ref a3]) (rest := []) hc hn hq hd_X0_split (lw_SW q2002 q2003 q83 q2004) (Nat.le_of_ble_eq_true rfl) (Nat.le_of_ble_eq_true rfl) (fun _ _ _ _ q => m_X0_split l hl0 D dA b0 gs h a1 x102 x104 a3 q) hf dL_law_2952 hl.1 rfl rfl (zroom (Nat.le_of_ble_eq_true rfl)) (fun x105 h106 H locs cells slots C9 S9 hf hq hn => ?_)
  refine lv_istore (lv' := [(6, .int x105), (0, .ref a0), (1, .ref a1), (2, .ref a2), (3, .ref a3), (4, .ref a4), (5, .int v5)]) hx hb dL_law_2955 hl (by decide) rfl (fun ls hl => ?_)
  refine lv_aload_n (x := a2) hx hb dL_law_2957 rfl (lv_at hl 3 rfl) ?_
  refine lv_aload_n (x := a0) hx hb dL_law_2958 rfl (lv_at hl 1 rfl) ?_
  refine lv_iload hx hb dL_law_2959 (lv_at hl 6 rfl) ?_
  refine lv_iconst (v := (1 : Int32)) hx hb dL_law_2961 (by decide) ?_
  refine lv_iadd hx hb dL_law_2962 ?_
  refine zr_nmI hf (fun x107 hf => ?_)
  refine zr_xld hc hn hX hf dL_law_2963 (fun x108 hf => ?_)
  refine lv_aload_n (x := a0) hx hb dL_law_2964 rfl (lv_at hl 1 rfl) ?_
  refine lv_iload hx hb dL_law_2965 (lv_at hl 6 rfl) ?_
  refine lv_iconst (v := (2 : Int32)) hx hb dL_law_2967 (by decide) ?_
  refine lv_iadd hx hb dL_law_2968 ?_
  refine zr_nmI hf (fun x109 hf => ?_)
  refine zr_xld hc hn hX hf dL_law_2969 (fun x110 hf => ?_)
  refine zr_cVI (As := [.int x108, .int x110]) (rest := []) hc hn hq (ci := 3) rfl ⟨rfl, hd_X4_split⟩ (lw_V q2593 q2594 q2595 q91 q2596) (Nat.le_of_ble_eq_true rfl) (Nat.le_of_ble_eq_true rfl) (fun _ _ _ _ q => m_X4_split l D dA b0 gs h106 a2 x108 x110 q) hf dL_law_2970 hl.1 rfl rfl (zroom (Nat.le_of_ble_eq_true rfl)) (fun x111 h112 H locs cells slots C9 S9 hf hq hn => ?_)
  refine lv_istore (lv' := [(7, .int x111), (6, .int x105), (0, .ref a0), (1, .ref a1), (2, .ref a2), (3, .ref a3), (4, .ref a4), (5, .int v5)]) hx hb dL_law_2973 hl (by decide) rfl (fun ls hl => ?_)
  refine lv_aload_n (x := a2) hx hb dL_law_2975 rfl (lv_at hl 4 rfl) ?_
  refine zr_cVI (As := []) (rest := []) hc hn hq (ci := 3) rfl ⟨rfl, hd_X4_thrown⟩ (lw_V q2195 q2196 q2197 q91 q2198) (Nat.le_of_ble_eq_true rfl) (Nat.le_of_ble_eq_true rfl) (fun _ _ _ _ q => m_X4_thrown l D dA b0 gs h112 a2 q) hf dL_law_2976 hl.1 rfl rfl (zroom (Nat.le_of_ble_eq_true rfl)) (fun x113 h114 H locs cells slots C9 S9 hf hq hn => ?_)
  refine lv_iload hx hb dL_law_2979 (lv_at hl 1 rfl) ?_
  refine lv_icmp_eq (tgt := 2986) hx hb dL_law_2981 (by decide) (fun c9 => ?_) (fun c9 => ?_)
  · have hf := zif_t c9 hf
    refine lv_iload hx hb dL_law_2986 (lv_at hl 1 rfl) ?_
    refine lv_if_ne (tgt := 3003) hx hb dL_law_2988 (by decide) (fun c9 => ?_) (fun c9 => ?_)
    · have hf := zif_f c9 hf
      exact m_L_law_b3003 hc hr hin hl0 hZ k28 hk28 h114 a0 a1 a2 a3 a4 v5 _ _ _ _ _ _ hX hf hq hn _ (lv_sub hl [2, 3, 4, 5, 6, 7] rfl)
    · have hf := zif_t c9 hf
      refine lv_aload_n (x := a3) hx hb dL_law_2991 rfl (lv_at hl 5 rfl) ?_
      refine lv_iconst (v := (0 : Int32)) hx hb dL_law_2992 (by decide) ?_
      refine zr_aL hc hn hf dL_law_2993 (fun x115 hf => ?_)
      refine lv_iload hx hb dL_law_2994 (lv_at hl 0 rfl) ?_
      refine lv_i2l (v := x111.toInt64) hx hb dL_law_2996 rfl ?_
      refine zr_nmL hf (fun x116 hf => ?_)
      refine W.lcmp hx hb dL_law_2997 ?_
      refine zr_nmI hf (fun x117 hf => ?_)
      refine lv_if_eq (tgt := 3003) hx hb dL_law_2998 (by decide) (fun c9 => ?_) (fun c9 => ?_)
      · have hf := zif_t c9 hf
        exact m_L_law_b3003 hc hr hin hl0 hZ k28 hk28 h114 a0 a1 a2 a3 a4 v5 _ _ _ _ _ _ hX hf hq hn _ (lv_sub hl [2, 3, 4, 5, 6, 7] rfl)
      · have hf := zif_f c9 hf
        refine lv_iconst (v := (0 : Int32)) hx hb dL_law_3001 (by decide) ?_
        obtain ⟨rfl, rfl, rfl, rfl⟩ := zret_i hf
        obtain ⟨hq1, hq2⟩ := hq
        subst hq1
        subst hq2
        exact hZ _ _ _ _ dL_law_3002 hn
  · have hf := zif_f c9 hf
    refine lv_iconst (v := (0 : Int32)) hx hb dL_law_2984 (by decide) ?_
    obtain ⟨rfl, rfl, rfl, rfl⟩ := zret_i hf
    obtain ⟨hq1, hq2⟩ := hq
    subst hq1
    subst hq2
    exact hZ _ _ _ _ dL_law_2985 hn
set_option maxHeartbeats 4000000 in
set_option maxRecDepth 100000 in
theorem m_L_law_b3083 {p : Program} {l : Launch} {e : Env} {s : State} {m : MethodId} {args : Array Value} {below : List Frame} {meth : Method} {c : Code} {D : va_G} {dA : Nat → ClassId} {b0 : Nat} {gs : Nat → Option Nat} (hc : zC D dA b0 gs x.cls cL_law 9 p c s m args meth) (hr : meth.sig.returnType = ret) (hin : meth.name = x.name) {r : Int32} {hh : PH} {mc ms : Nat} {L : Nat} {xs : Nat → Int32} (hl0 : l.stackTraces = false) {Q : State → Prop} (hZ : ∀ (pc : Nat) (ls : Array Slot) (H : Heap) (locs : List Loc), decode cL_law pc = .ok (.ireturn, 1) → zM D dA b0 gs s hh H locs → W p l e ({ frames := 16, cells := mc, slots := ms, locals := 3214 } : Room) s m args below meth c H locs mc ms Q (F0 m pc ls [.int r])) (k28 : PH → Nat → Nat → Nat → Nat → Nat → Int32 → ZR Int32) (hk28 : ∀ (h : PH) (a0 : Nat) (a1 : Nat) (a2 : Nat) (a3 : Nat) (a4 : Nat) (v5 : Int32) (C9 S9 : Nat) (H : Heap) (locs : List Loc) (cells slots : Nat), va_X a0 L xs s s.heap ∧ a0 < b0 → k28 h a0 a1 a2 a3 a4 v5 = some (r, hh, C9, S9) → cells + C9 = mc ∧ slots + S9 = ms → zM D dA b0 gs s h H locs → ∀ ls : Array Slot, lv_has ls 9 [(0, .ref a0), (1, .ref a1), (2, .ref a2), (3, .ref a3), (4, .ref a4), (5, .int v5)] → W p l e ({ frames := 16, cells := mc, slots := ms, locals := 3214 } : Room) s m args below meth c H locs cells slots Q (F0 m 28 ls [])) : ∀ (h : PH) (a0 : Nat) (a1 : Nat) (a2 : Nat) (a3 : Nat) (a4 : Nat) (v5 : Int32) (C9 S9 : Nat) (H : Heap) (locs : List Loc) (cells slots : Nat), va_X a0 L xs s s.heap ∧ a0 < b0 → f_L_law_b3083 L xs k28 h a0 a1 a2 a3 a4 v5 = some (r, hh, C9, S9) → cells + C9 = mc ∧ slots + S9 = ms → zM D dA b0 gs s h H locs → ∀ ls : Array Slot, lv_has ls 9 [(0, .ref a0), (1, .ref a1), (2, .ref a2), (3, .ref a3), (4, .ref a4), (5, .int v5)] → W p l e ({ frames := 16, cells := mc, slots := ms, locals := 3214 } : Room) s m args below meth c H locs cells slots Q (F0 m 3083 ls []) := by
  have hx := hc.x
  have hb := hc.b
  intro h a0 a1 a2 a3 a4 v5 C9 S9 H locs cells slots hX hf hq hn ls hl
  unfold f_L_law_b3083 at hf
  refine lv_goto (tgt := 3450) hx hb dL_law_3083 (by decide) ?_
  exact m_L_law_b3450 hc hr hin hl0 hZ k28 hk28 h a0 a1 a2 a3 a4 v5 _ _ _ _ _ _ hX hf hq hn _ (lv_sub hl [0, 1, 2, 3, 4, 5] rfl)
set_option maxHeartbeats 4000000 in
set_option maxRecDepth 100000 in
theorem m_L_law_b3006 {p : Program} {l : Launch} {e : Env} {s : State} {m : MethodId} {args : Array Value} {below : List Frame} {meth : Method} {c : Code} {D : va_G} {dA : Nat → ClassId} {b0 : Nat} {gs : Nat → Option Nat} (hc : zC D dA b0 gs x.cls cL_law 9 p c s m args meth) (hr : meth.sig.returnType = ret) (hin : meth.name = x.name) {r : Int32} {hh : PH} {mc ms : Nat} {L : Nat} {xs : Nat → Int32} (hl0 : l.stackTraces = false) {Q : State → Prop} (hZ : ∀ (pc : Nat) (ls : Array Slot) (H : Heap) (locs : List Loc), decode cL_law pc = .ok (.ireturn, 1) → zM D dA b0 gs s hh H locs → W p l e ({ frames := 16, cells := mc, slots := ms, locals := 3214 } : Room) s m args below meth c H locs mc ms Q (F0 m pc ls [.int r])) (k28 : PH → Nat → Nat → Nat → Nat → Nat → Int32 → ZR Int32) (hk28 : ∀ (h : PH) (a0 : Nat) (a1 : Nat) (a2 : Nat) (a3 : Nat) (a4 : Nat) (v5 : Int32) (C9 S9 : Nat) (H : Heap) (locs : List Loc) (cells slots : Nat), va_X a0 L xs s s.heap ∧ a0 < b0 → k28 h a0 a1 a2 a3 a4 v5 = some (r, hh, C9, S9) → cells + C9 = mc ∧ slots + S9 = ms → zM D dA b0 gs s h H locs → ∀ ls : Array Slot, lv_has ls 9 [(0, .ref a0), (1, .ref a1), (2, .ref a2), (3, .ref a3), (4, .ref a4), (5, .int v5)] → W p l e ({ frames := 16, cells := mc, slots := ms, locals := 3214 } : Room) s m args below meth c H locs cells slots Q (F0 m 28 ls [])) : ∀ (h : PH) (a0 : Nat) (a1 : Nat) (a2 : Nat) (a3 : Nat) (a4 : Nat) (v5 : Int32) (C9 S9 : Nat) (H : Heap) (locs : List Loc) (cells slots : Nat), va_X a0 L xs s s.heap ∧ a0 < b0 → f_L_law_b3006 L xs k28 h a0 a1 a2 a3 a4 v5 = some (r, hh, C9, S9) → cells + C9 = mc ∧ slots + S9 = ms → zM D dA b0 gs s h H locs → ∀ ls : Array Slot, lv_has ls 9 [(0, .ref a0), (1, .ref a1), (2, .ref a2), (3, .ref a3), (4, .ref a4), (5, .int v5)] → W p l e ({ frames := 16, cells := mc, slots := ms, locals := 3214 } : Room) s m args below meth c H locs cells slots Q (F0 m 3006 ls []) := by
  have hx := hc.x
  have hb := hc.b
  intro h a0 a1 a2 a3 a4 v5 C9 S9 H locs cells slots hX hf hq hn ls hl
  unfold f_L_law_b3006 at hf
  refine lv_aload_n (x := a1) hx hb dL_law_3006 rfl (lv_at hl 1 rfl) ?_
  refine lv_aload_n (x := a0) hx hb dL_law_3007 rfl (lv_at hl 0 rfl) ?_
  refine lv_iload hx hb dL_law_3008 (lv_at hl 5 rfl) ?_
  refine lv_iconst (v := (1 : Int32)) hx hb dL_law_3010 (by decide) ?_
  refine lv_iadd hx hb dL_law_3011 ?_
  refine zr_nmI hf (fun x101 hf => ?_)
  refine zr_xld hc hn hX hf dL_law_3012 (fun x102 hf => ?_)
  refine lv_aload_n (x := a0) hx hb dL_law_3013 rfl (lv_at hl 0 rfl) ?_
  refine lv_iload hx hb dL_law_3014 (lv_at hl 5 rfl) ?_
  refine lv_iconst (v := (2 : Int32)) hx hb dL_law_3016 (by decide) ?_
  refine lv_iadd hx hb dL_law_3017 ?_
  refine zr_nmI hf (fun x103 hf => ?_)
  refine zr_xld hc hn hX hf dL_law_3018 (fun x104 hf => ?_)
  refine lv_aload_n (x := a0) hx hb dL_law_3019 rfl (lv_at hl 0 rfl) ?_
  refine lv_iload hx hb dL_law_3020 (lv_at hl 5 rfl) ?_
  refine lv_iconst (v := (3 : Int32)) hx hb dL_law_3022 (by decide) ?_
  refine lv_iadd hx hb dL_law_3023 ?_
  refine zr_nmI hf (fun x105 hf => ?_)
  refine zr_xld hc hn hX hf dL_law_3024 (fun x106 hf => ?_)
  refine lv_aload_n (x := a3) hx hb dL_law_3025 rfl (lv_at hl 3 rfl) ?_
  refine zr_cSWI (As := [.ref a1, .int x102, .int x104, .int x106, .ref a3]) (rest := []) hc hn hq hd_X0_cut (lw_SW q2015 q2016 q83 q2017) (Nat.le_of_ble_eq_true rfl) (Nat.le_of_ble_eq_true rfl) (fun _ _ _ _ q => m_X0_cut l hl0 D dA b0 gs h a1 x102 x104 x106 a3 q) hf dL_law_3026 hl.1 rfl rfl (zroom (Nat.le_of_ble_eq_true rfl)) (fun x107 h108 H locs cells slots C9 S9 hf hq hn => ?_)
  refine lv_istore (lv' := [(6, .int x107), (0, .ref a0), (1, .ref a1), (2, .ref a2), (3, .ref a3), (4, .ref a4), (5, .int v5)]) hx hb dL_law_3029 hl (by decide) rfl (fun ls hl => ?_)
  refine lv_aload_n (x := a2) hx hb dL_law_3031 rfl (lv_at hl 3 rfl) ?_
  refine lv_aload_n (x := a0) hx hb dL_law_3032 rfl (lv_at hl 1 rfl) ?_
  refine lv_iload hx hb dL_law_3033 (lv_at hl 6 rfl) ?_
  refine lv_iconst (v := (1 : Int32)) hx hb dL_law_3035 (by decide) ?_
  refine lv_iadd hx hb dL_law_3036 ?_
  refine zr_nmI hf (fun x109 hf => ?_)
  refine zr_xld hc hn hX hf dL_law_3037 (fun x110 hf => ?_)
  refine lv_aload_n (x := a0) hx hb dL_law_3038 rfl (lv_at hl 1 rfl) ?_
  refine lv_iload hx hb dL_law_3039 (lv_at hl 6 rfl) ?_
  refine lv_iconst (v := (2 : Int32)) hx hb dL_law_3041 (by decide) ?_
  refine lv_iadd hx hb dL_law_3042 ?_
  refine zr_nmI hf (fun x111 hf => ?_)
  refine zr_xld hc hn hX hf dL_law_3043 (fun x112 hf => ?_)
  refine lv_aload_n (x := a0) hx hb dL_law_3044 rfl (lv_at hl 1 rfl) ?_
  refine lv_iload hx hb dL_law_3045 (lv_at hl 6 rfl) ?_
  refine lv_iconst (v := (3 : Int32)) hx hb dL_law_3047 (by decide) ?_
  refine lv_iadd hx hb dL_law_3048 ?_
  refine zr_nmI hf (fun x113 hf => ?_)
  refine zr_xld hc hn hX hf dL_law_3049 (fun x114 hf => ?_)
  refine zr_cVI (As := [.int x110, .int x112, .int x114]) (rest := []) hc hn hq (ci := 3) rfl ⟨rfl, hd_X4_cut⟩ (lw_V q2601 q2602 q2603 q91 q2604) (Nat.le_of_ble_eq_true rfl) (Nat.le_of_ble_eq_true rfl) (fun _ _ _ _ q => m_X4_cut l D dA b0 gs h108 a2 x110 x112 x114 q) hf dL_law_3050 hl.1 rfl rfl (zroom (Nat.le_of_ble_eq_true rfl)) (fun x115 h116 H locs cells slots C9 S9 hf hq hn => ?_)
  refine lv_istore (lv' := [(7, .int x115), (6, .int x107), (0, .ref a0), (1, .ref a1), (2, .ref a2), (3, .ref a3), (4, .ref a4), (5, .int v5)]) hx hb dL_law_3053 hl (by decide) rfl (fun ls hl => ?_)
  refine lv_aload_n (x := a2) hx hb dL_law_3055 rfl (lv_at hl 4 rfl) ?_
  refine zr_cVI (As := []) (rest := []) hc hn hq (ci := 3) rfl ⟨rfl, hd_X4_thrown⟩ (lw_V q2195 q2196 q2197 q91 q2198) (Nat.le_of_ble_eq_true rfl) (Nat.le_of_ble_eq_true rfl) (fun _ _ _ _ q => m_X4_thrown l D dA b0 gs h116 a2 q) hf dL_law_3056 hl.1 rfl rfl (zroom (Nat.le_of_ble_eq_true rfl)) (fun x117 h118 H locs cells slots C9 S9 hf hq hn => ?_)
  refine lv_iload hx hb dL_law_3059 (lv_at hl 1 rfl) ?_
  refine lv_icmp_eq (tgt := 3066) hx hb dL_law_3061 (by decide) (fun c9 => ?_) (fun c9 => ?_)
  · have hf := zif_t c9 hf
    refine lv_iload hx hb dL_law_3066 (lv_at hl 1 rfl) ?_
    refine lv_if_ne (tgt := 3083) hx hb dL_law_3068 (by decide) (fun c9 => ?_) (fun c9 => ?_)
    · have hf := zif_f c9 hf
      exact m_L_law_b3083 hc hr hin hl0 hZ k28 hk28 h118 a0 a1 a2 a3 a4 v5 _ _ _ _ _ _ hX hf hq hn _ (lv_sub hl [2, 3, 4, 5, 6, 7] rfl)
    · have hf := zif_t c9 hf
      refine lv_aload_n (x := a3) hx hb dL_law_3071 rfl (lv_at hl 5 rfl) ?_
      refine lv_iconst (v := (0 : Int32)) hx hb dL_law_3072 (by decide) ?_
      refine zr_aL hc hn hf dL_law_3073 (fun x119 hf => ?_)
      refine lv_iload hx hb dL_law_3074 (lv_at hl 0 rfl) ?_
      refine lv_i2l (v := x115.toInt64) hx hb dL_law_3076 rfl ?_
      refine zr_nmL hf (fun x120 hf => ?_)
      refine W.lcmp hx hb dL_law_3077 ?_
      refine zr_nmI hf (fun x121 hf => ?_)
      refine lv_if_eq (tgt := 3083) hx hb dL_law_3078 (by decide) (fun c9 => ?_) (fun c9 => ?_)
      · have hf := zif_t c9 hf
        exact m_L_law_b3083 hc hr hin hl0 hZ k28 hk28 h118 a0 a1 a2 a3 a4 v5 _ _ _ _ _ _ hX hf hq hn _ (lv_sub hl [2, 3, 4, 5, 6, 7] rfl)
      · have hf := zif_f c9 hf
        refine lv_iconst (v := (0 : Int32)) hx hb dL_law_3081 (by decide) ?_
        obtain ⟨rfl, rfl, rfl, rfl⟩ := zret_i hf
        obtain ⟨hq1, hq2⟩ := hq
        subst hq1
        subst hq2
        exact hZ _ _ _ _ dL_law_3082 hn
  · have hf := zif_f c9 hf
    refine lv_iconst (v := (0 : Int32)) hx hb dL_law_3064 (by decide) ?_
    obtain ⟨rfl, rfl, rfl, rfl⟩ := zret_i hf
    obtain ⟨hq1, hq2⟩ := hq
    subst hq1
    subst hq2
    exact hZ _ _ _ _ dL_law_3065 hn
set_option maxHeartbeats 4000000 in
set_option maxRecDepth 100000 in
theorem m_L_law_b3151 {p : Program} {l : Launch} {e : Env} {s : State} {m : MethodId} {args : Array Value} {below : List Frame} {meth : Method} {c : Code} {D : va_G} {dA : Nat → ClassId} {b0 : Nat} {gs : Nat → Option Nat} (hc : zC D dA b0 gs x.cls cL_law 9 p c s m args meth) (hr : meth.sig.returnType = ret) (hin : meth.name = x.name) {r : Int32} {hh : PH} {mc ms : Nat} {L : Nat} {xs : Nat → Int32} (hl0 : l.stackTraces = false) {Q : State → Prop} (hZ : ∀ (pc : Nat) (ls : Array Slot) (H : Heap) (locs : List Loc), decode cL_law pc = .ok (.ireturn, 1) → zM D dA b0 gs s hh H locs → W p l e ({ frames := 16, cells := mc, slots := ms, locals := 3214 } : Room) s m args below meth c H locs mc ms Q (F0 m pc ls [.int r])) (k28 : PH → Nat → Nat → Nat → Nat → Nat → Int32 → ZR Int32) (hk28 : ∀ (h : PH) (a0 : Nat) (a1 : Nat) (a2 : Nat) (a3 : Nat) (a4 : Nat) (v5 : Int32) (C9 S9 : Nat) (H : Heap) (locs : List Loc) (cells slots : Nat), va_X a0 L xs s s.heap ∧ a0 < b0 → k28 h a0 a1 a2 a3 a4 v5 = some (r, hh, C9, S9) → cells + C9 = mc ∧ slots + S9 = ms → zM D dA b0 gs s h H locs → ∀ ls : Array Slot, lv_has ls 9 [(0, .ref a0), (1, .ref a1), (2, .ref a2), (3, .ref a3), (4, .ref a4), (5, .int v5)] → W p l e ({ frames := 16, cells := mc, slots := ms, locals := 3214 } : Room) s m args below meth c H locs cells slots Q (F0 m 28 ls [])) : ∀ (h : PH) (a0 : Nat) (a1 : Nat) (a2 : Nat) (a3 : Nat) (a4 : Nat) (v5 : Int32) (C9 S9 : Nat) (H : Heap) (locs : List Loc) (cells slots : Nat), va_X a0 L xs s s.heap ∧ a0 < b0 → f_L_law_b3151 L xs k28 h a0 a1 a2 a3 a4 v5 = some (r, hh, C9, S9) → cells + C9 = mc ∧ slots + S9 = ms → zM D dA b0 gs s h H locs → ∀ ls : Array Slot, lv_has ls 9 [(0, .ref a0), (1, .ref a1), (2, .ref a2), (3, .ref a3), (4, .ref a4), (5, .int v5)] → W p l e ({ frames := 16, cells := mc, slots := ms, locals := 3214 } : Room) s m args below meth c H locs cells slots Q (F0 m 3151 ls []) := by
  have hx := hc.x
  have hb := hc.b
  intro h a0 a1 a2 a3 a4 v5 C9 S9 H locs cells slots hX hf hq hn ls hl
  unfold f_L_law_b3151 at hf
  refine lv_goto (tgt := 3450) hx hb dL_law_3151 (by decide) ?_
  exact m_L_law_b3450 hc hr hin hl0 hZ k28 hk28 h a0 a1 a2 a3 a4 v5 _ _ _ _ _ _ hX hf hq hn _ (lv_sub hl [0, 1, 2, 3, 4, 5] rfl)
set_option maxHeartbeats 4000000 in
set_option maxRecDepth 100000 in
theorem m_L_law_b3086 {p : Program} {l : Launch} {e : Env} {s : State} {m : MethodId} {args : Array Value} {below : List Frame} {meth : Method} {c : Code} {D : va_G} {dA : Nat → ClassId} {b0 : Nat} {gs : Nat → Option Nat} (hc : zC D dA b0 gs x.cls cL_law 9 p c s m args meth) (hr : meth.sig.returnType = ret) (hin : meth.name = x.name) {r : Int32} {hh : PH} {mc ms : Nat} {L : Nat} {xs : Nat → Int32} (hl0 : l.stackTraces = false) {Q : State → Prop} (hZ : ∀ (pc : Nat) (ls : Array Slot) (H : Heap) (locs : List Loc), decode cL_law pc = .ok (.ireturn, 1) → zM D dA b0 gs s hh H locs → W p l e ({ frames := 16, cells := mc, slots := ms, locals := 3214 } : Room) s m args below meth c H locs mc ms Q (F0 m pc ls [.int r])) (k28 : PH → Nat → Nat → Nat → Nat → Nat → Int32 → ZR Int32) (hk28 : ∀ (h : PH) (a0 : Nat) (a1 : Nat) (a2 : Nat) (a3 : Nat) (a4 : Nat) (v5 : Int32) (C9 S9 : Nat) (H : Heap) (locs : List Loc) (cells slots : Nat), va_X a0 L xs s s.heap ∧ a0 < b0 → k28 h a0 a1 a2 a3 a4 v5 = some (r, hh, C9, S9) → cells + C9 = mc ∧ slots + S9 = ms → zM D dA b0 gs s h H locs → ∀ ls : Array Slot, lv_has ls 9 [(0, .ref a0), (1, .ref a1), (2, .ref a2), (3, .ref a3), (4, .ref a4), (5, .int v5)] → W p l e ({ frames := 16, cells := mc, slots := ms, locals := 3214 } : Room) s m args below meth c H locs cells slots Q (F0 m 28 ls [])) : ∀ (h : PH) (a0 : Nat) (a1 : Nat) (a2 : Nat) (a3 : Nat) (a4 : Nat) (v5 : Int32) (C9 S9 : Nat) (H : Heap) (locs : List Loc) (cells slots : Nat), va_X a0 L xs s s.heap ∧ a0 < b0 → f_L_law_b3086 L xs k28 h a0 a1 a2 a3 a4 v5 = some (r, hh, C9, S9) → cells + C9 = mc ∧ slots + S9 = ms → zM D dA b0 gs s h H locs → ∀ ls : Array Slot, lv_has ls 9 [(0, .ref a0), (1, .ref a1), (2, .ref a2), (3, .ref a3), (4, .ref a4), (5, .int v5)] → W p l e ({ frames := 16, cells := mc, slots := ms, locals := 3214 } : Room) s m args below meth c H locs cells slots Q (F0 m 3086 ls []) := by
  have hx := hc.x
  have hb := hc.b
  intro h a0 a1 a2 a3 a4 v5 C9 S9 H locs cells slots hX hf hq hn ls hl
  unfold f_L_law_b3086 at hf
  refine lv_aload_n (x := a1) hx hb dL_law_3086 rfl (lv_at hl 1 rfl) ?_
  refine lv_aload_n (x := a0) hx hb dL_law_3087 rfl (lv_at hl 0 rfl) ?_
  refine lv_iload hx hb dL_law_3088 (lv_at hl 5 rfl) ?_
  refine lv_iconst (v := (1 : Int32)) hx hb dL_law_3090 (by decide) ?_
  refine lv_iadd hx hb dL_law_3091 ?_
  refine zr_nmI hf (fun x101 hf => ?_)
  refine zr_xld hc hn hX hf dL_law_3092 (fun x102 hf => ?_)
  refine lv_aload_n (x := a0) hx hb dL_law_3093 rfl (lv_at hl 0 rfl) ?_
  refine lv_iload hx hb dL_law_3094 (lv_at hl 5 rfl) ?_
  refine lv_iconst (v := (2 : Int32)) hx hb dL_law_3096 (by decide) ?_
  refine lv_iadd hx hb dL_law_3097 ?_
  refine zr_nmI hf (fun x103 hf => ?_)
  refine zr_xld hc hn hX hf dL_law_3098 (fun x104 hf => ?_)
  refine lv_aload_n (x := a3) hx hb dL_law_3099 rfl (lv_at hl 3 rfl) ?_
  refine zr_cSWI (As := [.ref a1, .int x102, .int x104, .ref a3]) (rest := []) hc hn hq hd_X0_join (lw_SW q2026 q2027 q83 q2028) (Nat.le_of_ble_eq_true rfl) (Nat.le_of_ble_eq_true rfl) (fun _ _ _ _ q => m_X0_join l hl0 D dA b0 gs h a1 x102 x104 a3 q) hf dL_law_3100 hl.1 rfl rfl (zroom (Nat.le_of_ble_eq_true rfl)) (fun x105 h106 H locs cells slots C9 S9 hf hq hn => ?_)
  refine lv_istore (lv' := [(6, .int x105), (0, .ref a0), (1, .ref a1), (2, .ref a2), (3, .ref a3), (4, .ref a4), (5, .int v5)]) hx hb dL_law_3103 hl (by decide) rfl (fun ls hl => ?_)
  refine lv_aload_n (x := a2) hx hb dL_law_3105 rfl (lv_at hl 3 rfl) ?_
  refine lv_aload_n (x := a0) hx hb dL_law_3106 rfl (lv_at hl 1 rfl) ?_
  refine lv_iload hx hb dL_law_3107 (lv_at hl 6 rfl) ?_
  refine lv_iconst (v := (1 : Int32)) hx hb dL_law_3109 (by decide) ?_
  refine lv_iadd hx hb dL_law_3110 ?_
  refine zr_nmI hf (fun x107 hf => ?_)
  refine zr_xld hc hn hX hf dL_law_3111 (fun x108 hf => ?_)
  refine lv_aload_n (x := a0) hx hb dL_law_3112 rfl (lv_at hl 1 rfl) ?_
  refine lv_iload hx hb dL_law_3113 (lv_at hl 6 rfl) ?_
  refine lv_iconst (v := (2 : Int32)) hx hb dL_law_3115 (by decide) ?_
  refine lv_iadd hx hb dL_law_3116 ?_
  refine zr_nmI hf (fun x109 hf => ?_)
  refine zr_xld hc hn hX hf dL_law_3117 (fun x110 hf => ?_)
  refine zr_cVI (As := [.int x108, .int x110]) (rest := []) hc hn hq (ci := 3) rfl ⟨rfl, hd_X4_join⟩ (lw_V q2605 q2606 q2607 q91 q2608) (Nat.le_of_ble_eq_true rfl) (Nat.le_of_ble_eq_true rfl) (fun _ _ _ _ q => m_X4_join l D dA b0 gs h106 a2 x108 x110 q) hf dL_law_3118 hl.1 rfl rfl (zroom (Nat.le_of_ble_eq_true rfl)) (fun x111 h112 H locs cells slots C9 S9 hf hq hn => ?_)
  refine lv_istore (lv' := [(7, .int x111), (6, .int x105), (0, .ref a0), (1, .ref a1), (2, .ref a2), (3, .ref a3), (4, .ref a4), (5, .int v5)]) hx hb dL_law_3121 hl (by decide) rfl (fun ls hl => ?_)
  refine lv_aload_n (x := a2) hx hb dL_law_3123 rfl (lv_at hl 4 rfl) ?_
  refine zr_cVI (As := []) (rest := []) hc hn hq (ci := 3) rfl ⟨rfl, hd_X4_thrown⟩ (lw_V q2195 q2196 q2197 q91 q2198) (Nat.le_of_ble_eq_true rfl) (Nat.le_of_ble_eq_true rfl) (fun _ _ _ _ q => m_X4_thrown l D dA b0 gs h112 a2 q) hf dL_law_3124 hl.1 rfl rfl (zroom (Nat.le_of_ble_eq_true rfl)) (fun x113 h114 H locs cells slots C9 S9 hf hq hn => ?_)
  refine lv_iload hx hb dL_law_3127 (lv_at hl 1 rfl) ?_
  refine lv_icmp_eq (tgt := 3134) hx hb dL_law_3129 (by decide) (fun c9 => ?_) (fun c9 => ?_)
  · have hf := zif_t c9 hf
    refine lv_iload hx hb dL_law_3134 (lv_at hl 1 rfl) ?_
    refine lv_if_ne (tgt := 3151) hx hb dL_law_3136 (by decide) (fun c9 => ?_) (fun c9 => ?_)
    · have hf := zif_f c9 hf
      exact m_L_law_b3151 hc hr hin hl0 hZ k28 hk28 h114 a0 a1 a2 a3 a4 v5 _ _ _ _ _ _ hX hf hq hn _ (lv_sub hl [2, 3, 4, 5, 6, 7] rfl)
    · have hf := zif_t c9 hf
      refine lv_aload_n (x := a3) hx hb dL_law_3139 rfl (lv_at hl 5 rfl) ?_
      refine lv_iconst (v := (0 : Int32)) hx hb dL_law_3140 (by decide) ?_
      refine zr_aL hc hn hf dL_law_3141 (fun x115 hf => ?_)
      refine lv_iload hx hb dL_law_3142 (lv_at hl 0 rfl) ?_
      refine lv_i2l (v := x111.toInt64) hx hb dL_law_3144 rfl ?_
      refine zr_nmL hf (fun x116 hf => ?_)
      refine W.lcmp hx hb dL_law_3145 ?_
      refine zr_nmI hf (fun x117 hf => ?_)
      refine lv_if_eq (tgt := 3151) hx hb dL_law_3146 (by decide) (fun c9 => ?_) (fun c9 => ?_)
      · have hf := zif_t c9 hf
        exact m_L_law_b3151 hc hr hin hl0 hZ k28 hk28 h114 a0 a1 a2 a3 a4 v5 _ _ _ _ _ _ hX hf hq hn _ (lv_sub hl [2, 3, 4, 5, 6, 7] rfl)
      · have hf := zif_f c9 hf
        refine lv_iconst (v := (0 : Int32)) hx hb dL_law_3149 (by decide) ?_
        obtain ⟨rfl, rfl, rfl, rfl⟩ := zret_i hf
        obtain ⟨hq1, hq2⟩ := hq
        subst hq1
        subst hq2
        exact hZ _ _ _ _ dL_law_3150 hn
  · have hf := zif_f c9 hf
    refine lv_iconst (v := (0 : Int32)) hx hb dL_law_3132 (by decide) ?_
    obtain ⟨rfl, rfl, rfl, rfl⟩ := zret_i hf
    obtain ⟨hq1, hq2⟩ := hq
    subst hq1
    subst hq2
    exact hZ _ _ _ _ dL_law_3133 hn
set_option maxHeartbeats 4000000 in
set_option maxRecDepth 100000 in
theorem m_L_law_b3219 {p : Program} {l : Launch} {e : Env} {s : State} {m : MethodId} {args : Array Value} {below : List Frame} {meth : Method} {c : Code} {D : va_G} {dA : Nat → ClassId} {b0 : Nat} {gs : Nat → Option Nat} (hc : zC D dA b0 gs x.cls cL_law 9 p c s m args meth) (hr : meth.sig.returnType = ret) (hin : meth.name = x.name) {r : Int32} {hh : PH} {mc ms : Nat} {L : Nat} {xs : Nat → Int32} (hl0 : l.stackTraces = false) {Q : State → Prop} (hZ : ∀ (pc : Nat) (ls : Array Slot) (H : Heap) (locs : List Loc), decode cL_law pc = .ok (.ireturn, 1) → zM D dA b0 gs s hh H locs → W p l e ({ frames := 16, cells := mc, slots := ms, locals := 3214 } : Room) s m args below meth c H locs mc ms Q (F0 m pc ls [.int r])) (k28 : PH → Nat → Nat → Nat → Nat → Nat → Int32 → ZR Int32) (hk28 : ∀ (h : PH) (a0 : Nat) (a1 : Nat) (a2 : Nat) (a3 : Nat) (a4 : Nat) (v5 : Int32) (C9 S9 : Nat) (H : Heap) (locs : List Loc) (cells slots : Nat), va_X a0 L xs s s.heap ∧ a0 < b0 → k28 h a0 a1 a2 a3 a4 v5 = some (r, hh, C9, S9) → cells + C9 = mc ∧ slots + S9 = ms → zM D dA b0 gs s h H locs → ∀ ls : Array Slot, lv_has ls 9 [(0, .ref a0), (1, .ref a1), (2, .ref a2), (3, .ref a3), (4, .ref a4), (5, .int v5)] → W p l e ({ frames := 16, cells := mc, slots := ms, locals := 3214 } : Room) s m args below meth c H locs cells slots Q (F0 m 28 ls [])) : ∀ (h : PH) (a0 : Nat) (a1 : Nat) (a2 : Nat) (a3 : Nat) (a4 : Nat) (v5 : Int32) (C9 S9 : Nat) (H : Heap) (locs : List Loc) (cells slots : Nat), va_X a0 L xs s s.heap ∧ a0 < b0 → f_L_law_b3219 L xs k28 h a0 a1 a2 a3 a4 v5 = some (r, hh, C9, S9) → cells + C9 = mc ∧ slots + S9 = ms → zM D dA b0 gs s h H locs → ∀ ls : Array Slot, lv_has ls 9 [(0, .ref a0), (1, .ref a1), (2, .ref a2), (3, .ref a3), (4, .ref a4), (5, .int v5)] → W p l e ({ frames := 16, cells := mc, slots := ms, locals := 3214 } : Room) s m args below meth c H locs cells slots Q (F0 m 3219 ls []) := by
  have hx := hc.x
  have hb := hc.b
  intro h a0 a1 a2 a3 a4 v5 C9 S9 H locs cells slots hX hf hq hn ls hl
  unfold f_L_law_b3219 at hf
  refine lv_goto (tgt := 3450) hx hb dL_law_3219 (by decide) ?_
  exact m_L_law_b3450 hc hr hin hl0 hZ k28 hk28 h a0 a1 a2 a3 a4 v5 _ _ _ _ _ _ hX hf hq hn _ (lv_sub hl [0, 1, 2, 3, 4, 5] rfl)
set_option maxHeartbeats 4000000 in
set_option maxRecDepth 100000 in
theorem m_L_law_b3154 {p : Program} {l : Launch} {e : Env} {s : State} {m : MethodId} {args : Array Value} {below : List Frame} {meth : Method} {c : Code} {D : va_G} {dA : Nat → ClassId} {b0 : Nat} {gs : Nat → Option Nat} (hc : zC D dA b0 gs x.cls cL_law 9 p c s m args meth) (hr : meth.sig.returnType = ret) (hin : meth.name = x.name) {r : Int32} {hh : PH} {mc ms : Nat} {L : Nat} {xs : Nat → Int32} (hl0 : l.stackTraces = false) {Q : State → Prop} (hZ : ∀ (pc : Nat) (ls : Array Slot) (H : Heap) (locs : List Loc), decode cL_law pc = .ok (.ireturn, 1) → zM D dA b0 gs s hh H locs → W p l e ({ frames := 16, cells := mc, slots := ms, locals := 3214 } : Room) s m args below meth c H locs mc ms Q (F0 m pc ls [.int r])) (k28 : PH → Nat → Nat → Nat → Nat → Nat → Int32 → ZR Int32) (hk28 : ∀ (h : PH) (a0 : Nat) (a1 : Nat) (a2 : Nat) (a3 : Nat) (a4 : Nat) (v5 : Int32) (C9 S9 : Nat) (H : Heap) (locs : List Loc) (cells slots : Nat), va_X a0 L xs s s.heap ∧ a0 < b0 → k28 h a0 a1 a2 a3 a4 v5 = some (r, hh, C9, S9) → cells + C9 = mc ∧ slots + S9 = ms → zM D dA b0 gs s h H locs → ∀ ls : Array Slot, lv_has ls 9 [(0, .ref a0), (1, .ref a1), (2, .ref a2), (3, .ref a3), (4, .ref a4), (5, .int v5)] → W p l e ({ frames := 16, cells := mc, slots := ms, locals := 3214 } : Room) s m args below meth c H locs cells slots Q (F0 m 28 ls [])) : ∀ (h : PH) (a0 : Nat) (a1 : Nat) (a2 : Nat) (a3 : Nat) (a4 : Nat) (v5 : Int32) (C9 S9 : Nat) (H : Heap) (locs : List Loc) (cells slots : Nat), va_X a0 L xs s s.heap ∧ a0 < b0 → f_L_law_b3154 L xs k28 h a0 a1 a2 a3 a4 v5 = some (r, hh, C9, S9) → cells + C9 = mc ∧ slots + S9 = ms → zM D dA b0 gs s h H locs → ∀ ls : Array Slot, lv_has ls 9 [(0, .ref a0), (1, .ref a1), (2, .ref a2), (3, .ref a3), (4, .ref a4), (5, .int v5)] → W p l e ({ frames := 16, cells := mc, slots := ms, locals := 3214 } : Room) s m args below meth c H locs cells slots Q (F0 m 3154 ls []) := by
  have hx := hc.x
  have hb := hc.b
  intro h a0 a1 a2 a3 a4 v5 C9 S9 H locs cells slots hX hf hq hn ls hl
  unfold f_L_law_b3154 at hf
  refine lv_aload_n (x := a1) hx hb dL_law_3154 rfl (lv_at hl 1 rfl) ?_
  refine lv_aload_n (x := a0) hx hb dL_law_3155 rfl (lv_at hl 0 rfl) ?_
  refine lv_iload hx hb dL_law_3156 (lv_at hl 5 rfl) ?_
  refine lv_iconst (v := (1 : Int32)) hx hb dL_law_3158 (by decide) ?_
  refine lv_iadd hx hb dL_law_3159 ?_
  refine zr_nmI hf (fun x101 hf => ?_)
  refine zr_xld hc hn hX hf dL_law_3160 (fun x102 hf => ?_)
  refine lv_aload_n (x := a0) hx hb dL_law_3161 rfl (lv_at hl 0 rfl) ?_
  refine lv_iload hx hb dL_law_3162 (lv_at hl 5 rfl) ?_
  refine lv_iconst (v := (2 : Int32)) hx hb dL_law_3164 (by decide) ?_
  refine lv_iadd hx hb dL_law_3165 ?_
  refine zr_nmI hf (fun x103 hf => ?_)
  refine zr_xld hc hn hX hf dL_law_3166 (fun x104 hf => ?_)
  refine lv_aload_n (x := a3) hx hb dL_law_3167 rfl (lv_at hl 3 rfl) ?_
  refine zr_cSWI (As := [.ref a1, .int x102, .int x104, .ref a3]) (rest := []) hc hn hq hd_X0_absorb (lw_SW q2034 q2035 q83 q2036) (Nat.le_of_ble_eq_true rfl) (Nat.le_of_ble_eq_true rfl) (fun _ _ _ _ q => m_X0_absorb l hl0 D dA b0 gs h a1 x102 x104 a3 q) hf dL_law_3168 hl.1 rfl rfl (zroom (Nat.le_of_ble_eq_true rfl)) (fun x105 h106 H locs cells slots C9 S9 hf hq hn => ?_)
  refine lv_istore (lv' := [(6, .int x105), (0, .ref a0), (1, .ref a1), (2, .ref a2), (3, .ref a3), (4, .ref a4), (5, .int v5)]) hx hb dL_law_3171 hl (by decide) rfl (fun ls hl => ?_)
  refine lv_aload_n (x := a2) hx hb dL_law_3173 rfl (lv_at hl 3 rfl) ?_
  refine lv_aload_n (x := a0) hx hb dL_law_3174 rfl (lv_at hl 1 rfl) ?_
  refine lv_iload hx hb dL_law_3175 (lv_at hl 6 rfl) ?_
  refine lv_iconst (v := (1 : Int32)) hx hb dL_law_3177 (by decide) ?_
  refine lv_iadd hx hb dL_law_3178 ?_
  refine zr_nmI hf (fun x107 hf => ?_)
  refine zr_xld hc hn hX hf dL_law_3179 (fun x108 hf => ?_)
  refine lv_aload_n (x := a0) hx hb dL_law_3180 rfl (lv_at hl 1 rfl) ?_
  refine lv_iload hx hb dL_law_3181 (lv_at hl 6 rfl) ?_
  refine lv_iconst (v := (2 : Int32)) hx hb dL_law_3183 (by decide) ?_
  refine lv_iadd hx hb dL_law_3184 ?_
  refine zr_nmI hf (fun x109 hf => ?_)
  refine zr_xld hc hn hX hf dL_law_3185 (fun x110 hf => ?_)
  refine zr_cVI (As := [.int x108, .int x110]) (rest := []) hc hn hq (ci := 3) rfl ⟨rfl, hd_X4_absorb⟩ (lw_V q2613 q2614 q2615 q91 q2616) (Nat.le_of_ble_eq_true rfl) (Nat.le_of_ble_eq_true rfl) (fun _ _ _ _ q => m_X4_absorb l D dA b0 gs h106 a2 x108 x110 q) hf dL_law_3186 hl.1 rfl rfl (zroom (Nat.le_of_ble_eq_true rfl)) (fun x111 h112 H locs cells slots C9 S9 hf hq hn => ?_)
  refine lv_istore (lv' := [(7, .int x111), (6, .int x105), (0, .ref a0), (1, .ref a1), (2, .ref a2), (3, .ref a3), (4, .ref a4), (5, .int v5)]) hx hb dL_law_3189 hl (by decide) rfl (fun ls hl => ?_)
  refine lv_aload_n (x := a2) hx hb dL_law_3191 rfl (lv_at hl 4 rfl) ?_
  refine zr_cVI (As := []) (rest := []) hc hn hq (ci := 3) rfl ⟨rfl, hd_X4_thrown⟩ (lw_V q2195 q2196 q2197 q91 q2198) (Nat.le_of_ble_eq_true rfl) (Nat.le_of_ble_eq_true rfl) (fun _ _ _ _ q => m_X4_thrown l D dA b0 gs h112 a2 q) hf dL_law_3192 hl.1 rfl rfl (zroom (Nat.le_of_ble_eq_true rfl)) (fun x113 h114 H locs cells slots C9 S9 hf hq hn => ?_)
  refine lv_iload hx hb dL_law_3195 (lv_at hl 1 rfl) ?_
  refine lv_icmp_eq (tgt := 3202) hx hb dL_law_3197 (by decide) (fun c9 => ?_) (fun c9 => ?_)
  · have hf := zif_t c9 hf
    refine lv_iload hx hb dL_law_3202 (lv_at hl 1 rfl) ?_
    refine lv_if_ne (tgt := 3219) hx hb dL_law_3204 (by decide) (fun c9 => ?_) (fun c9 => ?_)
    · have hf := zif_f c9 hf
      exact m_L_law_b3219 hc hr hin hl0 hZ k28 hk28 h114 a0 a1 a2 a3 a4 v5 _ _ _ _ _ _ hX hf hq hn _ (lv_sub hl [2, 3, 4, 5, 6, 7] rfl)
    · have hf := zif_t c9 hf
      refine lv_aload_n (x := a3) hx hb dL_law_3207 rfl (lv_at hl 5 rfl) ?_
      refine lv_iconst (v := (0 : Int32)) hx hb dL_law_3208 (by decide) ?_
      refine zr_aL hc hn hf dL_law_3209 (fun x115 hf => ?_)
      refine lv_iload hx hb dL_law_3210 (lv_at hl 0 rfl) ?_
      refine lv_i2l (v := x111.toInt64) hx hb dL_law_3212 rfl ?_
      refine zr_nmL hf (fun x116 hf => ?_)
      refine W.lcmp hx hb dL_law_3213 ?_
      refine zr_nmI hf (fun x117 hf => ?_)
      refine lv_if_eq (tgt := 3219) hx hb dL_law_3214 (by decide) (fun c9 => ?_) (fun c9 => ?_)
      · have hf := zif_t c9 hf
        exact m_L_law_b3219 hc hr hin hl0 hZ k28 hk28 h114 a0 a1 a2 a3 a4 v5 _ _ _ _ _ _ hX hf hq hn _ (lv_sub hl [2, 3, 4, 5, 6, 7] rfl)
      · have hf := zif_f c9 hf
        refine lv_iconst (v := (0 : Int32)) hx hb dL_law_3217 (by decide) ?_
        obtain ⟨rfl, rfl, rfl, rfl⟩ := zret_i hf
        obtain ⟨hq1, hq2⟩ := hq
        subst hq1
        subst hq2
        exact hZ _ _ _ _ dL_law_3218 hn
  · have hf := zif_f c9 hf
    refine lv_iconst (v := (0 : Int32)) hx hb dL_law_3200 (by decide) ?_
    obtain ⟨rfl, rfl, rfl, rfl⟩ := zret_i hf
    obtain ⟨hq1, hq2⟩ := hq
    subst hq1
    subst hq2
    exact hZ _ _ _ _ dL_law_3201 hn
set_option maxHeartbeats 4000000 in
set_option maxRecDepth 100000 in
theorem m_L_law_b3275 {p : Program} {l : Launch} {e : Env} {s : State} {m : MethodId} {args : Array Value} {below : List Frame} {meth : Method} {c : Code} {D : va_G} {dA : Nat → ClassId} {b0 : Nat} {gs : Nat → Option Nat} (hc : zC D dA b0 gs x.cls cL_law 9 p c s m args meth) (hr : meth.sig.returnType = ret) (hin : meth.name = x.name) {r : Int32} {hh : PH} {mc ms : Nat} {L : Nat} {xs : Nat → Int32} (hl0 : l.stackTraces = false) {Q : State → Prop} (hZ : ∀ (pc : Nat) (ls : Array Slot) (H : Heap) (locs : List Loc), decode cL_law pc = .ok (.ireturn, 1) → zM D dA b0 gs s hh H locs → W p l e ({ frames := 16, cells := mc, slots := ms, locals := 3214 } : Room) s m args below meth c H locs mc ms Q (F0 m pc ls [.int r])) (k28 : PH → Nat → Nat → Nat → Nat → Nat → Int32 → ZR Int32) (hk28 : ∀ (h : PH) (a0 : Nat) (a1 : Nat) (a2 : Nat) (a3 : Nat) (a4 : Nat) (v5 : Int32) (C9 S9 : Nat) (H : Heap) (locs : List Loc) (cells slots : Nat), va_X a0 L xs s s.heap ∧ a0 < b0 → k28 h a0 a1 a2 a3 a4 v5 = some (r, hh, C9, S9) → cells + C9 = mc ∧ slots + S9 = ms → zM D dA b0 gs s h H locs → ∀ ls : Array Slot, lv_has ls 9 [(0, .ref a0), (1, .ref a1), (2, .ref a2), (3, .ref a3), (4, .ref a4), (5, .int v5)] → W p l e ({ frames := 16, cells := mc, slots := ms, locals := 3214 } : Room) s m args below meth c H locs cells slots Q (F0 m 28 ls [])) : ∀ (h : PH) (a0 : Nat) (a1 : Nat) (a2 : Nat) (a3 : Nat) (a4 : Nat) (v5 : Int32) (C9 S9 : Nat) (H : Heap) (locs : List Loc) (cells slots : Nat), va_X a0 L xs s s.heap ∧ a0 < b0 → f_L_law_b3275 L xs k28 h a0 a1 a2 a3 a4 v5 = some (r, hh, C9, S9) → cells + C9 = mc ∧ slots + S9 = ms → zM D dA b0 gs s h H locs → ∀ ls : Array Slot, lv_has ls 9 [(0, .ref a0), (1, .ref a1), (2, .ref a2), (3, .ref a3), (4, .ref a4), (5, .int v5)] → W p l e ({ frames := 16, cells := mc, slots := ms, locals := 3214 } : Room) s m args below meth c H locs cells slots Q (F0 m 3275 ls []) := by
  have hx := hc.x
  have hb := hc.b
  intro h a0 a1 a2 a3 a4 v5 C9 S9 H locs cells slots hX hf hq hn ls hl
  unfold f_L_law_b3275 at hf
  refine lv_goto (tgt := 3450) hx hb dL_law_3275 (by decide) ?_
  exact m_L_law_b3450 hc hr hin hl0 hZ k28 hk28 h a0 a1 a2 a3 a4 v5 _ _ _ _ _ _ hX hf hq hn _ (lv_sub hl [0, 1, 2, 3, 4, 5] rfl)
set_option maxHeartbeats 4000000 in
set_option maxRecDepth 100000 in
theorem m_L_law_b3222 {p : Program} {l : Launch} {e : Env} {s : State} {m : MethodId} {args : Array Value} {below : List Frame} {meth : Method} {c : Code} {D : va_G} {dA : Nat → ClassId} {b0 : Nat} {gs : Nat → Option Nat} (hc : zC D dA b0 gs x.cls cL_law 9 p c s m args meth) (hr : meth.sig.returnType = ret) (hin : meth.name = x.name) {r : Int32} {hh : PH} {mc ms : Nat} {L : Nat} {xs : Nat → Int32} (hl0 : l.stackTraces = false) {Q : State → Prop} (hZ : ∀ (pc : Nat) (ls : Array Slot) (H : Heap) (locs : List Loc), decode cL_law pc = .ok (.ireturn, 1) → zM D dA b0 gs s hh H locs → W p l e ({ frames := 16, cells := mc, slots := ms, locals := 3214 } : Room) s m args below meth c H locs mc ms Q (F0 m pc ls [.int r])) (k28 : PH → Nat → Nat → Nat → Nat → Nat → Int32 → ZR Int32) (hk28 : ∀ (h : PH) (a0 : Nat) (a1 : Nat) (a2 : Nat) (a3 : Nat) (a4 : Nat) (v5 : Int32) (C9 S9 : Nat) (H : Heap) (locs : List Loc) (cells slots : Nat), va_X a0 L xs s s.heap ∧ a0 < b0 → k28 h a0 a1 a2 a3 a4 v5 = some (r, hh, C9, S9) → cells + C9 = mc ∧ slots + S9 = ms → zM D dA b0 gs s h H locs → ∀ ls : Array Slot, lv_has ls 9 [(0, .ref a0), (1, .ref a1), (2, .ref a2), (3, .ref a3), (4, .ref a4), (5, .int v5)] → W p l e ({ frames := 16, cells := mc, slots := ms, locals := 3214 } : Room) s m args below meth c H locs cells slots Q (F0 m 28 ls [])) : ∀ (h : PH) (a0 : Nat) (a1 : Nat) (a2 : Nat) (a3 : Nat) (a4 : Nat) (v5 : Int32) (C9 S9 : Nat) (H : Heap) (locs : List Loc) (cells slots : Nat), va_X a0 L xs s s.heap ∧ a0 < b0 → f_L_law_b3222 L xs k28 h a0 a1 a2 a3 a4 v5 = some (r, hh, C9, S9) → cells + C9 = mc ∧ slots + S9 = ms → zM D dA b0 gs s h H locs → ∀ ls : Array Slot, lv_has ls 9 [(0, .ref a0), (1, .ref a1), (2, .ref a2), (3, .ref a3), (4, .ref a4), (5, .int v5)] → W p l e ({ frames := 16, cells := mc, slots := ms, locals := 3214 } : Room) s m args below meth c H locs cells slots Q (F0 m 3222 ls []) := by
  have hx := hc.x
  have hb := hc.b
  intro h a0 a1 a2 a3 a4 v5 C9 S9 H locs cells slots hX hf hq hn ls hl
  unfold f_L_law_b3222 at hf
  refine lv_aload_n (x := a1) hx hb dL_law_3222 rfl (lv_at hl 1 rfl) ?_
  refine lv_aload_n (x := a0) hx hb dL_law_3223 rfl (lv_at hl 0 rfl) ?_
  refine lv_iload hx hb dL_law_3224 (lv_at hl 5 rfl) ?_
  refine lv_iconst (v := (1 : Int32)) hx hb dL_law_3226 (by decide) ?_
  refine lv_iadd hx hb dL_law_3227 ?_
  refine zr_nmI hf (fun x101 hf => ?_)
  refine zr_xld hc hn hX hf dL_law_3228 (fun x102 hf => ?_)
  refine lv_aload_n (x := a3) hx hb dL_law_3229 rfl (lv_at hl 3 rfl) ?_
  refine zr_cSWI (As := [.ref a1, .int x102, .ref a3]) (rest := []) hc hn hq hd_X0_level (lw_SW q2042 q2043 q83 q2044) (Nat.le_of_ble_eq_true rfl) (Nat.le_of_ble_eq_true rfl) (fun _ _ _ _ q => m_X0_level l hl0 D dA b0 gs h a1 x102 a3 q) hf dL_law_3230 hl.1 rfl rfl (zroom (Nat.le_of_ble_eq_true rfl)) (fun x103 h104 H locs cells slots C9 S9 hf hq hn => ?_)
  refine lv_istore (lv' := [(6, .int x103), (0, .ref a0), (1, .ref a1), (2, .ref a2), (3, .ref a3), (4, .ref a4), (5, .int v5)]) hx hb dL_law_3233 hl (by decide) rfl (fun ls hl => ?_)
  refine lv_aload_n (x := a2) hx hb dL_law_3235 rfl (lv_at hl 3 rfl) ?_
  refine lv_aload_n (x := a0) hx hb dL_law_3236 rfl (lv_at hl 1 rfl) ?_
  refine lv_iload hx hb dL_law_3237 (lv_at hl 6 rfl) ?_
  refine lv_iconst (v := (1 : Int32)) hx hb dL_law_3239 (by decide) ?_
  refine lv_iadd hx hb dL_law_3240 ?_
  refine zr_nmI hf (fun x105 hf => ?_)
  refine zr_xld hc hn hX hf dL_law_3241 (fun x106 hf => ?_)
  refine zr_cVI (As := [.int x106]) (rest := []) hc hn hq (ci := 3) rfl ⟨rfl, hd_X4_level⟩ (lw_V q2617 q2618 q2619 q91 q2620) (Nat.le_of_ble_eq_true rfl) (Nat.le_of_ble_eq_true rfl) (fun _ _ _ _ q => m_X4_level l D dA b0 gs h104 a2 x106 q) hf dL_law_3242 hl.1 rfl rfl (zroom (Nat.le_of_ble_eq_true rfl)) (fun x107 h108 H locs cells slots C9 S9 hf hq hn => ?_)
  refine lv_istore (lv' := [(7, .int x107), (6, .int x103), (0, .ref a0), (1, .ref a1), (2, .ref a2), (3, .ref a3), (4, .ref a4), (5, .int v5)]) hx hb dL_law_3245 hl (by decide) rfl (fun ls hl => ?_)
  refine lv_aload_n (x := a2) hx hb dL_law_3247 rfl (lv_at hl 4 rfl) ?_
  refine zr_cVI (As := []) (rest := []) hc hn hq (ci := 3) rfl ⟨rfl, hd_X4_thrown⟩ (lw_V q2195 q2196 q2197 q91 q2198) (Nat.le_of_ble_eq_true rfl) (Nat.le_of_ble_eq_true rfl) (fun _ _ _ _ q => m_X4_thrown l D dA b0 gs h108 a2 q) hf dL_law_3248 hl.1 rfl rfl (zroom (Nat.le_of_ble_eq_true rfl)) (fun x109 h110 H locs cells slots C9 S9 hf hq hn => ?_)
  refine lv_iload hx hb dL_law_3251 (lv_at hl 1 rfl) ?_
  refine lv_icmp_eq (tgt := 3258) hx hb dL_law_3253 (by decide) (fun c9 => ?_) (fun c9 => ?_)
  · have hf := zif_t c9 hf
    refine lv_iload hx hb dL_law_3258 (lv_at hl 1 rfl) ?_
    refine lv_if_ne (tgt := 3275) hx hb dL_law_3260 (by decide) (fun c9 => ?_) (fun c9 => ?_)
    · have hf := zif_f c9 hf
      exact m_L_law_b3275 hc hr hin hl0 hZ k28 hk28 h110 a0 a1 a2 a3 a4 v5 _ _ _ _ _ _ hX hf hq hn _ (lv_sub hl [2, 3, 4, 5, 6, 7] rfl)
    · have hf := zif_t c9 hf
      refine lv_aload_n (x := a3) hx hb dL_law_3263 rfl (lv_at hl 5 rfl) ?_
      refine lv_iconst (v := (0 : Int32)) hx hb dL_law_3264 (by decide) ?_
      refine zr_aL hc hn hf dL_law_3265 (fun x111 hf => ?_)
      refine lv_iload hx hb dL_law_3266 (lv_at hl 0 rfl) ?_
      refine lv_i2l (v := x107.toInt64) hx hb dL_law_3268 rfl ?_
      refine zr_nmL hf (fun x112 hf => ?_)
      refine W.lcmp hx hb dL_law_3269 ?_
      refine zr_nmI hf (fun x113 hf => ?_)
      refine lv_if_eq (tgt := 3275) hx hb dL_law_3270 (by decide) (fun c9 => ?_) (fun c9 => ?_)
      · have hf := zif_t c9 hf
        exact m_L_law_b3275 hc hr hin hl0 hZ k28 hk28 h110 a0 a1 a2 a3 a4 v5 _ _ _ _ _ _ hX hf hq hn _ (lv_sub hl [2, 3, 4, 5, 6, 7] rfl)
      · have hf := zif_f c9 hf
        refine lv_iconst (v := (0 : Int32)) hx hb dL_law_3273 (by decide) ?_
        obtain ⟨rfl, rfl, rfl, rfl⟩ := zret_i hf
        obtain ⟨hq1, hq2⟩ := hq
        subst hq1
        subst hq2
        exact hZ _ _ _ _ dL_law_3274 hn
  · have hf := zif_f c9 hf
    refine lv_iconst (v := (0 : Int32)) hx hb dL_law_3256 (by decide) ?_
    obtain ⟨rfl, rfl, rfl, rfl⟩ := zret_i hf
    obtain ⟨hq1, hq2⟩ := hq
    subst hq1
    subst hq2
    exact hZ _ _ _ _ dL_law_3257 hn
set_option maxHeartbeats 4000000 in
set_option maxRecDepth 100000 in
theorem m_L_law_b3331 {p : Program} {l : Launch} {e : Env} {s : State} {m : MethodId} {args : Array Value} {below : List Frame} {meth : Method} {c : Code} {D : va_G} {dA : Nat → ClassId} {b0 : Nat} {gs : Nat → Option Nat} (hc : zC D dA b0 gs x.cls cL_law 9 p c s m args meth) (hr : meth.sig.returnType = ret) (hin : meth.name = x.name) {r : Int32} {hh : PH} {mc ms : Nat} {L : Nat} {xs : Nat → Int32} (hl0 : l.stackTraces = false) {Q : State → Prop} (hZ : ∀ (pc : Nat) (ls : Array Slot) (H : Heap) (locs : List Loc), decode cL_law pc = .ok (.ireturn, 1) → zM D dA b0 gs s hh H locs → W p l e ({ frames := 16, cells := mc, slots := ms, locals := 3214 } : Room) s m args below meth c H locs mc ms Q (F0 m pc ls [.int r])) (k28 : PH → Nat → Nat → Nat → Nat → Nat → Int32 → ZR Int32) (hk28 : ∀ (h : PH) (a0 : Nat) (a1 : Nat) (a2 : Nat) (a3 : Nat) (a4 : Nat) (v5 : Int32) (C9 S9 : Nat) (H : Heap) (locs : List Loc) (cells slots : Nat), va_X a0 L xs s s.heap ∧ a0 < b0 → k28 h a0 a1 a2 a3 a4 v5 = some (r, hh, C9, S9) → cells + C9 = mc ∧ slots + S9 = ms → zM D dA b0 gs s h H locs → ∀ ls : Array Slot, lv_has ls 9 [(0, .ref a0), (1, .ref a1), (2, .ref a2), (3, .ref a3), (4, .ref a4), (5, .int v5)] → W p l e ({ frames := 16, cells := mc, slots := ms, locals := 3214 } : Room) s m args below meth c H locs cells slots Q (F0 m 28 ls [])) : ∀ (h : PH) (a0 : Nat) (a1 : Nat) (a2 : Nat) (a3 : Nat) (a4 : Nat) (v5 : Int32) (C9 S9 : Nat) (H : Heap) (locs : List Loc) (cells slots : Nat), va_X a0 L xs s s.heap ∧ a0 < b0 → f_L_law_b3331 L xs k28 h a0 a1 a2 a3 a4 v5 = some (r, hh, C9, S9) → cells + C9 = mc ∧ slots + S9 = ms → zM D dA b0 gs s h H locs → ∀ ls : Array Slot, lv_has ls 9 [(0, .ref a0), (1, .ref a1), (2, .ref a2), (3, .ref a3), (4, .ref a4), (5, .int v5)] → W p l e ({ frames := 16, cells := mc, slots := ms, locals := 3214 } : Room) s m args below meth c H locs cells slots Q (F0 m 3331 ls []) := by
  have hx := hc.x
  have hb := hc.b
  intro h a0 a1 a2 a3 a4 v5 C9 S9 H locs cells slots hX hf hq hn ls hl
  unfold f_L_law_b3331 at hf
  refine lv_goto (tgt := 3450) hx hb dL_law_3331 (by decide) ?_
  exact m_L_law_b3450 hc hr hin hl0 hZ k28 hk28 h a0 a1 a2 a3 a4 v5 _ _ _ _ _ _ hX hf hq hn _ (lv_sub hl [0, 1, 2, 3, 4, 5] rfl)
set_option maxHeartbeats 4000000 in
set_option maxRecDepth 100000 in
theorem m_L_law_b3278 {p : Program} {l : Launch} {e : Env} {s : State} {m : MethodId} {args : Array Value} {below : List Frame} {meth : Method} {c : Code} {D : va_G} {dA : Nat → ClassId} {b0 : Nat} {gs : Nat → Option Nat} (hc : zC D dA b0 gs x.cls cL_law 9 p c s m args meth) (hr : meth.sig.returnType = ret) (hin : meth.name = x.name) {r : Int32} {hh : PH} {mc ms : Nat} {L : Nat} {xs : Nat → Int32} (hl0 : l.stackTraces = false) {Q : State → Prop} (hZ : ∀ (pc : Nat) (ls : Array Slot) (H : Heap) (locs : List Loc), decode cL_law pc = .ok (.ireturn, 1) → zM D dA b0 gs s hh H locs → W p l e ({ frames := 16, cells := mc, slots := ms, locals := 3214 } : Room) s m args below meth c H locs mc ms Q (F0 m pc ls [.int r])) (k28 : PH → Nat → Nat → Nat → Nat → Nat → Int32 → ZR Int32) (hk28 : ∀ (h : PH) (a0 : Nat) (a1 : Nat) (a2 : Nat) (a3 : Nat) (a4 : Nat) (v5 : Int32) (C9 S9 : Nat) (H : Heap) (locs : List Loc) (cells slots : Nat), va_X a0 L xs s s.heap ∧ a0 < b0 → k28 h a0 a1 a2 a3 a4 v5 = some (r, hh, C9, S9) → cells + C9 = mc ∧ slots + S9 = ms → zM D dA b0 gs s h H locs → ∀ ls : Array Slot, lv_has ls 9 [(0, .ref a0), (1, .ref a1), (2, .ref a2), (3, .ref a3), (4, .ref a4), (5, .int v5)] → W p l e ({ frames := 16, cells := mc, slots := ms, locals := 3214 } : Room) s m args below meth c H locs cells slots Q (F0 m 28 ls [])) : ∀ (h : PH) (a0 : Nat) (a1 : Nat) (a2 : Nat) (a3 : Nat) (a4 : Nat) (v5 : Int32) (C9 S9 : Nat) (H : Heap) (locs : List Loc) (cells slots : Nat), va_X a0 L xs s s.heap ∧ a0 < b0 → f_L_law_b3278 L xs k28 h a0 a1 a2 a3 a4 v5 = some (r, hh, C9, S9) → cells + C9 = mc ∧ slots + S9 = ms → zM D dA b0 gs s h H locs → ∀ ls : Array Slot, lv_has ls 9 [(0, .ref a0), (1, .ref a1), (2, .ref a2), (3, .ref a3), (4, .ref a4), (5, .int v5)] → W p l e ({ frames := 16, cells := mc, slots := ms, locals := 3214 } : Room) s m args below meth c H locs cells slots Q (F0 m 3278 ls []) := by
  have hx := hc.x
  have hb := hc.b
  intro h a0 a1 a2 a3 a4 v5 C9 S9 H locs cells slots hX hf hq hn ls hl
  unfold f_L_law_b3278 at hf
  refine lv_aload_n (x := a1) hx hb dL_law_3278 rfl (lv_at hl 1 rfl) ?_
  refine lv_aload_n (x := a0) hx hb dL_law_3279 rfl (lv_at hl 0 rfl) ?_
  refine lv_iload hx hb dL_law_3280 (lv_at hl 5 rfl) ?_
  refine lv_iconst (v := (1 : Int32)) hx hb dL_law_3282 (by decide) ?_
  refine lv_iadd hx hb dL_law_3283 ?_
  refine zr_nmI hf (fun x101 hf => ?_)
  refine zr_xld hc hn hX hf dL_law_3284 (fun x102 hf => ?_)
  refine lv_aload_n (x := a3) hx hb dL_law_3285 rfl (lv_at hl 3 rfl) ?_
  refine zr_cSWI (As := [.ref a1, .int x102, .ref a3]) (rest := []) hc hn hq hd_X0_setLimit (lw_SW q2050 q2051 q83 q2052) (Nat.le_of_ble_eq_true rfl) (Nat.le_of_ble_eq_true rfl) (fun _ _ _ _ q => m_X0_setLimit l hl0 D dA b0 gs h a1 x102 a3 q) hf dL_law_3286 hl.1 rfl rfl (zroom (Nat.le_of_ble_eq_true rfl)) (fun x103 h104 H locs cells slots C9 S9 hf hq hn => ?_)
  refine lv_istore (lv' := [(6, .int x103), (0, .ref a0), (1, .ref a1), (2, .ref a2), (3, .ref a3), (4, .ref a4), (5, .int v5)]) hx hb dL_law_3289 hl (by decide) rfl (fun ls hl => ?_)
  refine lv_aload_n (x := a2) hx hb dL_law_3291 rfl (lv_at hl 3 rfl) ?_
  refine lv_aload_n (x := a0) hx hb dL_law_3292 rfl (lv_at hl 1 rfl) ?_
  refine lv_iload hx hb dL_law_3293 (lv_at hl 6 rfl) ?_
  refine lv_iconst (v := (1 : Int32)) hx hb dL_law_3295 (by decide) ?_
  refine lv_iadd hx hb dL_law_3296 ?_
  refine zr_nmI hf (fun x105 hf => ?_)
  refine zr_xld hc hn hX hf dL_law_3297 (fun x106 hf => ?_)
  refine zr_cVI (As := [.int x106]) (rest := []) hc hn hq (ci := 3) rfl ⟨rfl, hd_X4_setLimit⟩ (lw_V q2621 q2622 q2623 q91 q2624) (Nat.le_of_ble_eq_true rfl) (Nat.le_of_ble_eq_true rfl) (fun _ _ _ _ q => m_X4_setLimit l D dA b0 gs h104 a2 x106 q) hf dL_law_3298 hl.1 rfl rfl (zroom (Nat.le_of_ble_eq_true rfl)) (fun x107 h108 H locs cells slots C9 S9 hf hq hn => ?_)
  refine lv_istore (lv' := [(7, .int x107), (6, .int x103), (0, .ref a0), (1, .ref a1), (2, .ref a2), (3, .ref a3), (4, .ref a4), (5, .int v5)]) hx hb dL_law_3301 hl (by decide) rfl (fun ls hl => ?_)
  refine lv_aload_n (x := a2) hx hb dL_law_3303 rfl (lv_at hl 4 rfl) ?_
  refine zr_cVI (As := []) (rest := []) hc hn hq (ci := 3) rfl ⟨rfl, hd_X4_thrown⟩ (lw_V q2195 q2196 q2197 q91 q2198) (Nat.le_of_ble_eq_true rfl) (Nat.le_of_ble_eq_true rfl) (fun _ _ _ _ q => m_X4_thrown l D dA b0 gs h108 a2 q) hf dL_law_3304 hl.1 rfl rfl (zroom (Nat.le_of_ble_eq_true rfl)) (fun x109 h110 H locs cells slots C9 S9 hf hq hn => ?_)
  refine lv_iload hx hb dL_law_3307 (lv_at hl 1 rfl) ?_
  refine lv_icmp_eq (tgt := 3314) hx hb dL_law_3309 (by decide) (fun c9 => ?_) (fun c9 => ?_)
  · have hf := zif_t c9 hf
    refine lv_iload hx hb dL_law_3314 (lv_at hl 1 rfl) ?_
    refine lv_if_ne (tgt := 3331) hx hb dL_law_3316 (by decide) (fun c9 => ?_) (fun c9 => ?_)
    · have hf := zif_f c9 hf
      exact m_L_law_b3331 hc hr hin hl0 hZ k28 hk28 h110 a0 a1 a2 a3 a4 v5 _ _ _ _ _ _ hX hf hq hn _ (lv_sub hl [2, 3, 4, 5, 6, 7] rfl)
    · have hf := zif_t c9 hf
      refine lv_aload_n (x := a3) hx hb dL_law_3319 rfl (lv_at hl 5 rfl) ?_
      refine lv_iconst (v := (0 : Int32)) hx hb dL_law_3320 (by decide) ?_
      refine zr_aL hc hn hf dL_law_3321 (fun x111 hf => ?_)
      refine lv_iload hx hb dL_law_3322 (lv_at hl 0 rfl) ?_
      refine lv_i2l (v := x107.toInt64) hx hb dL_law_3324 rfl ?_
      refine zr_nmL hf (fun x112 hf => ?_)
      refine W.lcmp hx hb dL_law_3325 ?_
      refine zr_nmI hf (fun x113 hf => ?_)
      refine lv_if_eq (tgt := 3331) hx hb dL_law_3326 (by decide) (fun c9 => ?_) (fun c9 => ?_)
      · have hf := zif_t c9 hf
        exact m_L_law_b3331 hc hr hin hl0 hZ k28 hk28 h110 a0 a1 a2 a3 a4 v5 _ _ _ _ _ _ hX hf hq hn _ (lv_sub hl [2, 3, 4, 5, 6, 7] rfl)
      · have hf := zif_f c9 hf
        refine lv_iconst (v := (0 : Int32)) hx hb dL_law_3329 (by decide) ?_
        obtain ⟨rfl, rfl, rfl, rfl⟩ := zret_i hf
        obtain ⟨hq1, hq2⟩ := hq
        subst hq1
        subst hq2
        exact hZ _ _ _ _ dL_law_3330 hn
  · have hf := zif_f c9 hf
    refine lv_iconst (v := (0 : Int32)) hx hb dL_law_3312 (by decide) ?_
    obtain ⟨rfl, rfl, rfl, rfl⟩ := zret_i hf
    obtain ⟨hq1, hq2⟩ := hq
    subst hq1
    subst hq2
    exact hZ _ _ _ _ dL_law_3313 hn
set_option maxHeartbeats 4000000 in
set_option maxRecDepth 100000 in
theorem m_L_law_b3375 {p : Program} {l : Launch} {e : Env} {s : State} {m : MethodId} {args : Array Value} {below : List Frame} {meth : Method} {c : Code} {D : va_G} {dA : Nat → ClassId} {b0 : Nat} {gs : Nat → Option Nat} (hc : zC D dA b0 gs x.cls cL_law 9 p c s m args meth) (hr : meth.sig.returnType = ret) (hin : meth.name = x.name) {r : Int32} {hh : PH} {mc ms : Nat} {L : Nat} {xs : Nat → Int32} (hl0 : l.stackTraces = false) {Q : State → Prop} (hZ : ∀ (pc : Nat) (ls : Array Slot) (H : Heap) (locs : List Loc), decode cL_law pc = .ok (.ireturn, 1) → zM D dA b0 gs s hh H locs → W p l e ({ frames := 16, cells := mc, slots := ms, locals := 3214 } : Room) s m args below meth c H locs mc ms Q (F0 m pc ls [.int r])) (k28 : PH → Nat → Nat → Nat → Nat → Nat → Int32 → ZR Int32) (hk28 : ∀ (h : PH) (a0 : Nat) (a1 : Nat) (a2 : Nat) (a3 : Nat) (a4 : Nat) (v5 : Int32) (C9 S9 : Nat) (H : Heap) (locs : List Loc) (cells slots : Nat), va_X a0 L xs s s.heap ∧ a0 < b0 → k28 h a0 a1 a2 a3 a4 v5 = some (r, hh, C9, S9) → cells + C9 = mc ∧ slots + S9 = ms → zM D dA b0 gs s h H locs → ∀ ls : Array Slot, lv_has ls 9 [(0, .ref a0), (1, .ref a1), (2, .ref a2), (3, .ref a3), (4, .ref a4), (5, .int v5)] → W p l e ({ frames := 16, cells := mc, slots := ms, locals := 3214 } : Room) s m args below meth c H locs cells slots Q (F0 m 28 ls [])) : ∀ (h : PH) (a0 : Nat) (a1 : Nat) (a2 : Nat) (a3 : Nat) (a4 : Nat) (v5 : Int32) (C9 S9 : Nat) (H : Heap) (locs : List Loc) (cells slots : Nat), va_X a0 L xs s s.heap ∧ a0 < b0 → f_L_law_b3375 L xs k28 h a0 a1 a2 a3 a4 v5 = some (r, hh, C9, S9) → cells + C9 = mc ∧ slots + S9 = ms → zM D dA b0 gs s h H locs → ∀ ls : Array Slot, lv_has ls 9 [(0, .ref a0), (1, .ref a1), (2, .ref a2), (3, .ref a3), (4, .ref a4), (5, .int v5)] → W p l e ({ frames := 16, cells := mc, slots := ms, locals := 3214 } : Room) s m args below meth c H locs cells slots Q (F0 m 3375 ls []) := by
  have hx := hc.x
  have hb := hc.b
  intro h a0 a1 a2 a3 a4 v5 C9 S9 H locs cells slots hX hf hq hn ls hl
  unfold f_L_law_b3375 at hf
  refine lv_goto (tgt := 3450) hx hb dL_law_3375 (by decide) ?_
  exact m_L_law_b3450 hc hr hin hl0 hZ k28 hk28 h a0 a1 a2 a3 a4 v5 _ _ _ _ _ _ hX hf hq hn _ (lv_sub hl [0, 1, 2, 3, 4, 5] rfl)
set_option maxHeartbeats 4000000 in
set_option maxRecDepth 100000 in
theorem m_L_law_b3334 {p : Program} {l : Launch} {e : Env} {s : State} {m : MethodId} {args : Array Value} {below : List Frame} {meth : Method} {c : Code} {D : va_G} {dA : Nat → ClassId} {b0 : Nat} {gs : Nat → Option Nat} (hc : zC D dA b0 gs x.cls cL_law 9 p c s m args meth) (hr : meth.sig.returnType = ret) (hin : meth.name = x.name) {r : Int32} {hh : PH} {mc ms : Nat} {L : Nat} {xs : Nat → Int32} (hl0 : l.stackTraces = false) {Q : State → Prop} (hZ : ∀ (pc : Nat) (ls : Array Slot) (H : Heap) (locs : List Loc), decode cL_law pc = .ok (.ireturn, 1) → zM D dA b0 gs s hh H locs → W p l e ({ frames := 16, cells := mc, slots := ms, locals := 3214 } : Room) s m args below meth c H locs mc ms Q (F0 m pc ls [.int r])) (k28 : PH → Nat → Nat → Nat → Nat → Nat → Int32 → ZR Int32) (hk28 : ∀ (h : PH) (a0 : Nat) (a1 : Nat) (a2 : Nat) (a3 : Nat) (a4 : Nat) (v5 : Int32) (C9 S9 : Nat) (H : Heap) (locs : List Loc) (cells slots : Nat), va_X a0 L xs s s.heap ∧ a0 < b0 → k28 h a0 a1 a2 a3 a4 v5 = some (r, hh, C9, S9) → cells + C9 = mc ∧ slots + S9 = ms → zM D dA b0 gs s h H locs → ∀ ls : Array Slot, lv_has ls 9 [(0, .ref a0), (1, .ref a1), (2, .ref a2), (3, .ref a3), (4, .ref a4), (5, .int v5)] → W p l e ({ frames := 16, cells := mc, slots := ms, locals := 3214 } : Room) s m args below meth c H locs cells slots Q (F0 m 28 ls [])) : ∀ (h : PH) (a0 : Nat) (a1 : Nat) (a2 : Nat) (a3 : Nat) (a4 : Nat) (v5 : Int32) (C9 S9 : Nat) (H : Heap) (locs : List Loc) (cells slots : Nat), va_X a0 L xs s s.heap ∧ a0 < b0 → f_L_law_b3334 L xs k28 h a0 a1 a2 a3 a4 v5 = some (r, hh, C9, S9) → cells + C9 = mc ∧ slots + S9 = ms → zM D dA b0 gs s h H locs → ∀ ls : Array Slot, lv_has ls 9 [(0, .ref a0), (1, .ref a1), (2, .ref a2), (3, .ref a3), (4, .ref a4), (5, .int v5)] → W p l e ({ frames := 16, cells := mc, slots := ms, locals := 3214 } : Room) s m args below meth c H locs cells slots Q (F0 m 3334 ls []) := by
  have hx := hc.x
  have hb := hc.b
  intro h a0 a1 a2 a3 a4 v5 C9 S9 H locs cells slots hX hf hq hn ls hl
  unfold f_L_law_b3334 at hf
  refine lv_aload_n (x := a1) hx hb dL_law_3334 rfl (lv_at hl 1 rfl) ?_
  refine lv_aload_n (x := a3) hx hb dL_law_3335 rfl (lv_at hl 3 rfl) ?_
  refine zr_cSWI (As := [.ref a1, .ref a3]) (rest := []) hc hn hq hd_X0_undo (lw_SW q2057 q2058 q83 q2059) (Nat.le_of_ble_eq_true rfl) (Nat.le_of_ble_eq_true rfl) (fun _ _ _ _ q => m_X0_undo l hl0 D dA b0 gs h a1 a3 q) hf dL_law_3336 hl.1 rfl rfl (zroom (Nat.le_of_ble_eq_true rfl)) (fun x101 h102 H locs cells slots C9 S9 hf hq hn => ?_)
  refine lv_istore (lv' := [(6, .int x101), (0, .ref a0), (1, .ref a1), (2, .ref a2), (3, .ref a3), (4, .ref a4), (5, .int v5)]) hx hb dL_law_3339 hl (by decide) rfl (fun ls hl => ?_)
  refine lv_aload_n (x := a2) hx hb dL_law_3341 rfl (lv_at hl 3 rfl) ?_
  refine zr_cVI (As := []) (rest := []) hc hn hq (ci := 3) rfl ⟨rfl, hd_X4_undo⟩ (lw_V q2625 q2626 q2627 q91 q2628) (Nat.le_of_ble_eq_true rfl) (Nat.le_of_ble_eq_true rfl) (fun _ _ _ _ q => m_X4_undo l D dA b0 gs h102 a2 q) hf dL_law_3342 hl.1 rfl rfl (zroom (Nat.le_of_ble_eq_true rfl)) (fun x103 h104 H locs cells slots C9 S9 hf hq hn => ?_)
  refine lv_istore (lv' := [(7, .int x103), (6, .int x101), (0, .ref a0), (1, .ref a1), (2, .ref a2), (3, .ref a3), (4, .ref a4), (5, .int v5)]) hx hb dL_law_3345 hl (by decide) rfl (fun ls hl => ?_)
  refine lv_aload_n (x := a2) hx hb dL_law_3347 rfl (lv_at hl 4 rfl) ?_
  refine zr_cVI (As := []) (rest := []) hc hn hq (ci := 3) rfl ⟨rfl, hd_X4_thrown⟩ (lw_V q2195 q2196 q2197 q91 q2198) (Nat.le_of_ble_eq_true rfl) (Nat.le_of_ble_eq_true rfl) (fun _ _ _ _ q => m_X4_thrown l D dA b0 gs h104 a2 q) hf dL_law_3348 hl.1 rfl rfl (zroom (Nat.le_of_ble_eq_true rfl)) (fun x105 h106 H locs cells slots C9 S9 hf hq hn => ?_)
  refine lv_iload hx hb dL_law_3351 (lv_at hl 1 rfl) ?_
  refine lv_icmp_eq (tgt := 3358) hx hb dL_law_3353 (by decide) (fun c9 => ?_) (fun c9 => ?_)
  · have hf := zif_t c9 hf
    refine lv_iload hx hb dL_law_3358 (lv_at hl 1 rfl) ?_
    refine lv_if_ne (tgt := 3375) hx hb dL_law_3360 (by decide) (fun c9 => ?_) (fun c9 => ?_)
    · have hf := zif_f c9 hf
      exact m_L_law_b3375 hc hr hin hl0 hZ k28 hk28 h106 a0 a1 a2 a3 a4 v5 _ _ _ _ _ _ hX hf hq hn _ (lv_sub hl [2, 3, 4, 5, 6, 7] rfl)
    · have hf := zif_t c9 hf
      refine lv_aload_n (x := a3) hx hb dL_law_3363 rfl (lv_at hl 5 rfl) ?_
      refine lv_iconst (v := (0 : Int32)) hx hb dL_law_3364 (by decide) ?_
      refine zr_aL hc hn hf dL_law_3365 (fun x107 hf => ?_)
      refine lv_iload hx hb dL_law_3366 (lv_at hl 0 rfl) ?_
      refine lv_i2l (v := x103.toInt64) hx hb dL_law_3368 rfl ?_
      refine zr_nmL hf (fun x108 hf => ?_)
      refine W.lcmp hx hb dL_law_3369 ?_
      refine zr_nmI hf (fun x109 hf => ?_)
      refine lv_if_eq (tgt := 3375) hx hb dL_law_3370 (by decide) (fun c9 => ?_) (fun c9 => ?_)
      · have hf := zif_t c9 hf
        exact m_L_law_b3375 hc hr hin hl0 hZ k28 hk28 h106 a0 a1 a2 a3 a4 v5 _ _ _ _ _ _ hX hf hq hn _ (lv_sub hl [2, 3, 4, 5, 6, 7] rfl)
      · have hf := zif_f c9 hf
        refine lv_iconst (v := (0 : Int32)) hx hb dL_law_3373 (by decide) ?_
        obtain ⟨rfl, rfl, rfl, rfl⟩ := zret_i hf
        obtain ⟨hq1, hq2⟩ := hq
        subst hq1
        subst hq2
        exact hZ _ _ _ _ dL_law_3374 hn
  · have hf := zif_f c9 hf
    refine lv_iconst (v := (0 : Int32)) hx hb dL_law_3356 (by decide) ?_
    obtain ⟨rfl, rfl, rfl, rfl⟩ := zret_i hf
    obtain ⟨hq1, hq2⟩ := hq
    subst hq1
    subst hq2
    exact hZ _ _ _ _ dL_law_3357 hn
set_option maxHeartbeats 4000000 in
set_option maxRecDepth 100000 in
theorem m_L_law_b3378 {p : Program} {l : Launch} {e : Env} {s : State} {m : MethodId} {args : Array Value} {below : List Frame} {meth : Method} {c : Code} {D : va_G} {dA : Nat → ClassId} {b0 : Nat} {gs : Nat → Option Nat} (hc : zC D dA b0 gs x.cls cL_law 9 p c s m args meth) (hr : meth.sig.returnType = ret) (hin : meth.name = x.name) {r : Int32} {hh : PH} {mc ms : Nat} {L : Nat} {xs : Nat → Int32} (hl0 : l.stackTraces = false) {Q : State → Prop} (hZ : ∀ (pc : Nat) (ls : Array Slot) (H : Heap) (locs : List Loc), decode cL_law pc = .ok (.ireturn, 1) → zM D dA b0 gs s hh H locs → W p l e ({ frames := 16, cells := mc, slots := ms, locals := 3214 } : Room) s m args below meth c H locs mc ms Q (F0 m pc ls [.int r])) (k28 : PH → Nat → Nat → Nat → Nat → Nat → Int32 → ZR Int32) (hk28 : ∀ (h : PH) (a0 : Nat) (a1 : Nat) (a2 : Nat) (a3 : Nat) (a4 : Nat) (v5 : Int32) (C9 S9 : Nat) (H : Heap) (locs : List Loc) (cells slots : Nat), va_X a0 L xs s s.heap ∧ a0 < b0 → k28 h a0 a1 a2 a3 a4 v5 = some (r, hh, C9, S9) → cells + C9 = mc ∧ slots + S9 = ms → zM D dA b0 gs s h H locs → ∀ ls : Array Slot, lv_has ls 9 [(0, .ref a0), (1, .ref a1), (2, .ref a2), (3, .ref a3), (4, .ref a4), (5, .int v5)] → W p l e ({ frames := 16, cells := mc, slots := ms, locals := 3214 } : Room) s m args below meth c H locs cells slots Q (F0 m 28 ls [])) : ∀ (h : PH) (a0 : Nat) (a1 : Nat) (a2 : Nat) (a3 : Nat) (a4 : Nat) (v5 : Int32) (C9 S9 : Nat) (H : Heap) (locs : List Loc) (cells slots : Nat), va_X a0 L xs s s.heap ∧ a0 < b0 → f_L_law_b3378 L xs k28 h a0 a1 a2 a3 a4 v5 = some (r, hh, C9, S9) → cells + C9 = mc ∧ slots + S9 = ms → zM D dA b0 gs s h H locs → ∀ ls : Array Slot, lv_has ls 9 [(0, .ref a0), (1, .ref a1), (2, .ref a2), (3, .ref a3), (4, .ref a4), (5, .int v5)] → W p l e ({ frames := 16, cells := mc, slots := ms, locals := 3214 } : Room) s m args below meth c H locs cells slots Q (F0 m 3378 ls []) := by
  have hx := hc.x
  have hb := hc.b
  intro h a0 a1 a2 a3 a4 v5 C9 S9 H locs cells slots hX hf hq hn ls hl
  unfold f_L_law_b3378 at hf
  refine lv_aload_n (x := a1) hx hb dL_law_3378 rfl (lv_at hl 1 rfl) ?_
  refine lv_aload_n (x := a0) hx hb dL_law_3379 rfl (lv_at hl 0 rfl) ?_
  refine lv_iload hx hb dL_law_3380 (lv_at hl 5 rfl) ?_
  refine lv_iconst (v := (1 : Int32)) hx hb dL_law_3382 (by decide) ?_
  refine lv_iadd hx hb dL_law_3383 ?_
  refine zr_nmI hf (fun x101 hf => ?_)
  refine zr_xld hc hn hX hf dL_law_3384 (fun x102 hf => ?_)
  refine zr_cSWI (As := [.ref a1, .int x102]) (rest := []) hc hn hq hd_X0_save (lw_SW q2075 q2076 q83 q2077) (Nat.le_of_ble_eq_true rfl) (Nat.le_of_ble_eq_true rfl) (fun _ _ _ _ q => m_X0_save l hl0 D dA b0 gs h a1 x102 q) hf dL_law_3385 hl.1 rfl rfl (zroom (Nat.le_of_ble_eq_true rfl)) (fun x103 h104 H locs cells slots C9 S9 hf hq hn => ?_)
  refine lv_istore (lv' := [(6, .int x103), (0, .ref a0), (1, .ref a1), (2, .ref a2), (3, .ref a3), (4, .ref a4), (5, .int v5)]) hx hb dL_law_3388 hl (by decide) rfl (fun ls hl => ?_)
  refine lv_aload_n (x := a2) hx hb dL_law_3390 rfl (lv_at hl 3 rfl) ?_
  refine lv_aload_n (x := a0) hx hb dL_law_3391 rfl (lv_at hl 1 rfl) ?_
  refine lv_iload hx hb dL_law_3392 (lv_at hl 6 rfl) ?_
  refine lv_iconst (v := (1 : Int32)) hx hb dL_law_3394 (by decide) ?_
  refine lv_iadd hx hb dL_law_3395 ?_
  refine zr_nmI hf (fun x105 hf => ?_)
  refine zr_xld hc hn hX hf dL_law_3396 (fun x106 hf => ?_)
  refine zr_cVU (As := [.int x106]) (rest := []) hc hn hq (ci := 3) rfl ⟨rfl, hd_X4_save⟩ (lw_V q2629 q2630 q2631 q91 q2632) (Nat.le_of_ble_eq_true rfl) (Nat.le_of_ble_eq_true rfl) (fun _ _ _ _ q => m_X4_save l D dA b0 gs h104 a2 x106 q) hf dL_law_3397 hl.1 rfl rfl (zroom (Nat.le_of_ble_eq_true rfl)) (fun x107 h108 H locs cells slots C9 S9 hf hq hn => ?_)
  refine lv_aload_n (x := a2) hx hb dL_law_3400 rfl (lv_at hl 3 rfl) ?_
  refine zr_cVI (As := []) (rest := []) hc hn hq (ci := 3) rfl ⟨rfl, hd_X4_thrown⟩ (lw_V q2195 q2196 q2197 q91 q2198) (Nat.le_of_ble_eq_true rfl) (Nat.le_of_ble_eq_true rfl) (fun _ _ _ _ q => m_X4_thrown l D dA b0 gs h108 a2 q) hf dL_law_3401 hl.1 rfl rfl (zroom (Nat.le_of_ble_eq_true rfl)) (fun x109 h110 H locs cells slots C9 S9 hf hq hn => ?_)
  refine lv_iload hx hb dL_law_3404 (lv_at hl 0 rfl) ?_
  refine lv_icmp_eq (tgt := 3411) hx hb dL_law_3406 (by decide) (fun c9 => ?_) (fun c9 => ?_)
  · have hf := zif_t c9 hf
    refine lv_goto (tgt := 3450) hx hb dL_law_3411 (by decide) ?_
    exact m_L_law_b3450 hc hr hin hl0 hZ k28 hk28 h110 a0 a1 a2 a3 a4 v5 _ _ _ _ _ _ hX hf hq hn _ (lv_sub hl [1, 2, 3, 4, 5, 6] rfl)
  · have hf := zif_f c9 hf
    refine lv_iconst (v := (0 : Int32)) hx hb dL_law_3409 (by decide) ?_
    obtain ⟨rfl, rfl, rfl, rfl⟩ := zret_i hf
    obtain ⟨hq1, hq2⟩ := hq
    subst hq1
    subst hq2
    exact hZ _ _ _ _ dL_law_3410 hn
set_option maxHeartbeats 4000000 in
set_option maxRecDepth 100000 in
theorem m_L_law_b3414 {p : Program} {l : Launch} {e : Env} {s : State} {m : MethodId} {args : Array Value} {below : List Frame} {meth : Method} {c : Code} {D : va_G} {dA : Nat → ClassId} {b0 : Nat} {gs : Nat → Option Nat} (hc : zC D dA b0 gs x.cls cL_law 9 p c s m args meth) (hr : meth.sig.returnType = ret) (hin : meth.name = x.name) {r : Int32} {hh : PH} {mc ms : Nat} {L : Nat} {xs : Nat → Int32} (hl0 : l.stackTraces = false) {Q : State → Prop} (hZ : ∀ (pc : Nat) (ls : Array Slot) (H : Heap) (locs : List Loc), decode cL_law pc = .ok (.ireturn, 1) → zM D dA b0 gs s hh H locs → W p l e ({ frames := 16, cells := mc, slots := ms, locals := 3214 } : Room) s m args below meth c H locs mc ms Q (F0 m pc ls [.int r])) (k28 : PH → Nat → Nat → Nat → Nat → Nat → Int32 → ZR Int32) (hk28 : ∀ (h : PH) (a0 : Nat) (a1 : Nat) (a2 : Nat) (a3 : Nat) (a4 : Nat) (v5 : Int32) (C9 S9 : Nat) (H : Heap) (locs : List Loc) (cells slots : Nat), va_X a0 L xs s s.heap ∧ a0 < b0 → k28 h a0 a1 a2 a3 a4 v5 = some (r, hh, C9, S9) → cells + C9 = mc ∧ slots + S9 = ms → zM D dA b0 gs s h H locs → ∀ ls : Array Slot, lv_has ls 9 [(0, .ref a0), (1, .ref a1), (2, .ref a2), (3, .ref a3), (4, .ref a4), (5, .int v5)] → W p l e ({ frames := 16, cells := mc, slots := ms, locals := 3214 } : Room) s m args below meth c H locs cells slots Q (F0 m 28 ls [])) : ∀ (h : PH) (a0 : Nat) (a1 : Nat) (a2 : Nat) (a3 : Nat) (a4 : Nat) (v5 : Int32) (C9 S9 : Nat) (H : Heap) (locs : List Loc) (cells slots : Nat), va_X a0 L xs s s.heap ∧ a0 < b0 → f_L_law_b3414 L xs k28 h a0 a1 a2 a3 a4 v5 = some (r, hh, C9, S9) → cells + C9 = mc ∧ slots + S9 = ms → zM D dA b0 gs s h H locs → ∀ ls : Array Slot, lv_has ls 9 [(0, .ref a0), (1, .ref a1), (2, .ref a2), (3, .ref a3), (4, .ref a4), (5, .int v5)] → W p l e ({ frames := 16, cells := mc, slots := ms, locals := 3214 } : Room) s m args below meth c H locs cells slots Q (F0 m 3414 ls []) := by
  have hx := hc.x
  have hb := hc.b
  intro h a0 a1 a2 a3 a4 v5 C9 S9 H locs cells slots hX hf hq hn ls hl
  unfold f_L_law_b3414 at hf
  refine lv_aload_n (x := a1) hx hb dL_law_3414 rfl (lv_at hl 1 rfl) ?_
  refine lv_aload_n (x := a0) hx hb dL_law_3415 rfl (lv_at hl 0 rfl) ?_
  refine lv_iload hx hb dL_law_3416 (lv_at hl 5 rfl) ?_
  refine lv_iconst (v := (1 : Int32)) hx hb dL_law_3418 (by decide) ?_
  refine lv_iadd hx hb dL_law_3419 ?_
  refine zr_nmI hf (fun x101 hf => ?_)
  refine zr_xld hc hn hX hf dL_law_3420 (fun x102 hf => ?_)
  refine zr_cSWI (As := [.ref a1, .int x102]) (rest := []) hc hn hq hd_X0_restore (lw_SW q2085 q2086 q83 q2087) (Nat.le_of_ble_eq_true rfl) (Nat.le_of_ble_eq_true rfl) (fun _ _ _ _ q => m_X0_restore l hl0 D dA b0 gs h a1 x102 q) hf dL_law_3421 hl.1 rfl rfl (zroom (Nat.le_of_ble_eq_true rfl)) (fun x103 h104 H locs cells slots C9 S9 hf hq hn => ?_)
  refine lv_istore (lv' := [(6, .int x103), (0, .ref a0), (1, .ref a1), (2, .ref a2), (3, .ref a3), (4, .ref a4), (5, .int v5)]) hx hb dL_law_3424 hl (by decide) rfl (fun ls hl => ?_)
  refine lv_aload_n (x := a2) hx hb dL_law_3426 rfl (lv_at hl 3 rfl) ?_
  refine lv_aload_n (x := a0) hx hb dL_law_3427 rfl (lv_at hl 1 rfl) ?_
  refine lv_iload hx hb dL_law_3428 (lv_at hl 6 rfl) ?_
  refine lv_iconst (v := (1 : Int32)) hx hb dL_law_3430 (by decide) ?_
  refine lv_iadd hx hb dL_law_3431 ?_
  refine zr_nmI hf (fun x105 hf => ?_)
  refine zr_xld hc hn hX hf dL_law_3432 (fun x106 hf => ?_)
  refine zr_cVU (As := [.int x106]) (rest := []) hc hn hq (ci := 3) rfl ⟨rfl, hd_X4_restore⟩ (lw_V q2633 q2634 q2635 q91 q2636) (Nat.le_of_ble_eq_true rfl) (Nat.le_of_ble_eq_true rfl) (fun _ _ _ _ q => m_X4_restore l D dA b0 gs h104 a2 x106 q) hf dL_law_3433 hl.1 rfl rfl (zroom (Nat.le_of_ble_eq_true rfl)) (fun x107 h108 H locs cells slots C9 S9 hf hq hn => ?_)
  refine lv_aload_n (x := a2) hx hb dL_law_3436 rfl (lv_at hl 3 rfl) ?_
  refine zr_cVI (As := []) (rest := []) hc hn hq (ci := 3) rfl ⟨rfl, hd_X4_thrown⟩ (lw_V q2195 q2196 q2197 q91 q2198) (Nat.le_of_ble_eq_true rfl) (Nat.le_of_ble_eq_true rfl) (fun _ _ _ _ q => m_X4_thrown l D dA b0 gs h108 a2 q) hf dL_law_3437 hl.1 rfl rfl (zroom (Nat.le_of_ble_eq_true rfl)) (fun x109 h110 H locs cells slots C9 S9 hf hq hn => ?_)
  refine lv_iload hx hb dL_law_3440 (lv_at hl 0 rfl) ?_
  refine lv_icmp_eq (tgt := 3447) hx hb dL_law_3442 (by decide) (fun c9 => ?_) (fun c9 => ?_)
  · have hf := zif_t c9 hf
    refine lv_goto (tgt := 3450) hx hb dL_law_3447 (by decide) ?_
    exact m_L_law_b3450 hc hr hin hl0 hZ k28 hk28 h110 a0 a1 a2 a3 a4 v5 _ _ _ _ _ _ hX hf hq hn _ (lv_sub hl [1, 2, 3, 4, 5, 6] rfl)
  · have hf := zif_f c9 hf
    refine lv_iconst (v := (0 : Int32)) hx hb dL_law_3445 (by decide) ?_
    obtain ⟨rfl, rfl, rfl, rfl⟩ := zret_i hf
    obtain ⟨hq1, hq2⟩ := hq
    subst hq1
    subst hq2
    exact hZ _ _ _ _ dL_law_3446 hn
set_option maxHeartbeats 4000000 in
set_option maxRecDepth 100000 in
theorem m_L_law_b28 {p : Program} {l : Launch} {e : Env} {s : State} {m : MethodId} {args : Array Value} {below : List Frame} {meth : Method} {c : Code} {D : va_G} {dA : Nat → ClassId} {b0 : Nat} {gs : Nat → Option Nat} (hc : zC D dA b0 gs x.cls cL_law 9 p c s m args meth) (hr : meth.sig.returnType = ret) (hin : meth.name = x.name) {r : Int32} {hh : PH} {mc ms : Nat} {L : Nat} {xs : Nat → Int32} (hl0 : l.stackTraces = false) {Q : State → Prop} (hZ : ∀ (pc : Nat) (ls : Array Slot) (H : Heap) (locs : List Loc), decode cL_law pc = .ok (.ireturn, 1) → zM D dA b0 gs s hh H locs → W p l e ({ frames := 16, cells := mc, slots := ms, locals := 3214 } : Room) s m args below meth c H locs mc ms Q (F0 m pc ls [.int r])) : ∀ (n : Nat) (h : PH) (a0 : Nat) (a1 : Nat) (a2 : Nat) (a3 : Nat) (a4 : Nat) (v5 : Int32) (C9 S9 : Nat) (H : Heap) (locs : List Loc) (cells slots : Nat), va_X a0 L xs s s.heap ∧ a0 < b0 → f_L_law_b28 L xs n h a0 a1 a2 a3 a4 v5 = some (r, hh, C9, S9) → cells + C9 = mc ∧ slots + S9 = ms → zM D dA b0 gs s h H locs → ∀ ls : Array Slot, lv_has ls 9 [(0, .ref a0), (1, .ref a1), (2, .ref a2), (3, .ref a3), (4, .ref a4), (5, .int v5)] → W p l e ({ frames := 16, cells := mc, slots := ms, locals := 3214 } : Room) s m args below meth c H locs cells slots Q (F0 m 28 ls []) := by
  have hx := hc.x
  have hb := hc.b
  intro n
  induction n with
  | zero =>
    intro h a0 a1 a2 a3 a4 v5 C9 S9 H locs cells slots hX hf hq hn ls hl
    cases hf
  | succ n ih =>
    intro h a0 a1 a2 a3 a4 v5 C9 S9 H locs cells slots hX hf hq hn ls hl
    unfold f_L_law_b28 at hf
    refine lv_iload hx hb dL_law_28 (lv_at hl 5 rfl) ?_
    refine lv_aload_n (x := a0) hx hb dL_law_30 rfl (lv_at hl 0 rfl) ?_
    refine zr_xlen hc hn hX hf dL_law_31 (fun x101 hf => ?_)
    refine lv_bipush (v := (6 : Int32)) hx hb dL_law_32 (by decide) ?_
    refine lv_isub hx hb dL_law_34 ?_
    refine zr_nmI hf (fun x102 hf => ?_)
    refine lv_icmp_gt (tgt := 3456) hx hb dL_law_35 (by decide) (fun c9 => ?_) (fun c9 => ?_)
    · have hf := zif_t c9 hf
      refine lv_iconst (v := (1 : Int32)) hx hb dL_law_3456 (by decide) ?_
      obtain ⟨rfl, rfl, rfl, rfl⟩ := zret_i hf
      obtain ⟨hq1, hq2⟩ := hq
      subst hq1
      subst hq2
      exact hZ _ _ _ _ dL_law_3457 hn
    · have hf := zif_f c9 hf
      refine lv_aload_n (x := a0) hx hb dL_law_38 rfl (lv_at hl 0 rfl) ?_
      refine lv_iload hx hb dL_law_39 (lv_at hl 5 rfl) ?_
      refine zr_xld hc hn hX hf dL_law_41 (fun x103 hf => ?_)
      refine lv_bipush (v := (63 : Int32)) hx hb dL_law_42 (by decide) ?_
      refine lv_iand hx hb dL_law_44 ?_
      refine zr_nmI hf (fun x104 hf => ?_)
      by_cases c8 : x104.toInt < 0 ∨ 52 < x104.toInt
      · have hf := zif_t c8 hf
        refine lv_tableOut (x := x104) (tgt := 3450) hx hb dL_law_45 c8 (by decide) ?_
        exact m_L_law_b3450 hc hr hin hl0 hZ (f_L_law_b28 L xs n) ih h a0 a1 a2 a3 a4 v5 _ _ _ _ _ _ hX hf hq hn _ (lv_sub hl [0, 1, 2, 3, 4, 5] rfl)
      · have hf := zif_f c8 hf
        by_cases c9 : x104 = 0
        · have hf := zif_t c9 hf
          refine lv_tableIn (x := x104) (tgt := 272) hx hb dL_law_45 (by rw [c9]; decide) (by rw [c9]; decide) (by rw [c9]; rfl) (by decide) ?_
          exact m_L_law_b272 hc hr hin hl0 hZ (f_L_law_b28 L xs n) ih h a0 a1 a2 a3 a4 v5 _ _ _ _ _ _ hX hf hq hn _ (lv_sub hl [0, 1, 2, 3, 4, 5] rfl)
        · have hf := zif_f c9 hf
          by_cases c9 : x104 = 1
          · have hf := zif_t c9 hf
            refine lv_tableIn (x := x104) (tgt := 376) hx hb dL_law_45 (by rw [c9]; decide) (by rw [c9]; decide) (by rw [c9]; rfl) (by decide) ?_
            exact m_L_law_b376 hc hr hin hl0 hZ (f_L_law_b28 L xs n) ih h a0 a1 a2 a3 a4 v5 _ _ _ _ _ _ hX hf hq hn _ (lv_sub hl [0, 1, 2, 3, 4, 5] rfl)
          · have hf := zif_f c9 hf
            by_cases c9 : x104 = 2
            · have hf := zif_t c9 hf
              refine lv_tableIn (x := x104) (tgt := 432) hx hb dL_law_45 (by rw [c9]; decide) (by rw [c9]; decide) (by rw [c9]; rfl) (by decide) ?_
              exact m_L_law_b432 hc hr hin hl0 hZ (f_L_law_b28 L xs n) ih h a0 a1 a2 a3 a4 v5 _ _ _ _ _ _ hX hf hq hn _ (lv_sub hl [0, 1, 2, 3, 4, 5] rfl)
            · have hf := zif_f c9 hf
              by_cases c9 : x104 = 3
              · have hf := zif_t c9 hf
                refine lv_tableIn (x := x104) (tgt := 476) hx hb dL_law_45 (by rw [c9]; decide) (by rw [c9]; decide) (by rw [c9]; rfl) (by decide) ?_
                exact m_L_law_b476 hc hr hin hl0 hZ (f_L_law_b28 L xs n) ih h a0 a1 a2 a3 a4 v5 _ _ _ _ _ _ hX hf hq hn _ (lv_sub hl [0, 1, 2, 3, 4, 5] rfl)
              · have hf := zif_f c9 hf
                by_cases c9 : x104 = 4
                · have hf := zif_t c9 hf
                  refine lv_tableIn (x := x104) (tgt := 489) hx hb dL_law_45 (by rw [c9]; decide) (by rw [c9]; decide) (by rw [c9]; rfl) (by decide) ?_
                  exact m_L_law_b489 hc hr hin hl0 hZ (f_L_law_b28 L xs n) ih h a0 a1 a2 a3 a4 v5 _ _ _ _ _ _ hX hf hq hn _ (lv_sub hl [0, 1, 2, 3, 4, 5] rfl)
                · have hf := zif_f c9 hf
                  by_cases c9 : x104 = 5
                  · have hf := zif_t c9 hf
                    refine lv_tableIn (x := x104) (tgt := 502) hx hb dL_law_45 (by rw [c9]; decide) (by rw [c9]; decide) (by rw [c9]; rfl) (by decide) ?_
                    exact m_L_law_b502 hc hr hin hl0 hZ (f_L_law_b28 L xs n) ih h a0 a1 a2 a3 a4 v5 _ _ _ _ _ _ hX hf hq hn _ (lv_sub hl [0, 1, 2, 3, 4, 5] rfl)
                  · have hf := zif_f c9 hf
                    by_cases c9 : x104 = 6
                    · have hf := zif_t c9 hf
                      refine lv_tableIn (x := x104) (tgt := 546) hx hb dL_law_45 (by rw [c9]; decide) (by rw [c9]; decide) (by rw [c9]; rfl) (by decide) ?_
                      exact m_L_law_b546 hc hr hin hl0 hZ (f_L_law_b28 L xs n) ih h a0 a1 a2 a3 a4 v5 _ _ _ _ _ _ hX hf hq hn _ (lv_sub hl [0, 1, 2, 3, 4, 5] rfl)
                    · have hf := zif_f c9 hf
                      by_cases c9 : x104 = 7
                      · have hf := zif_t c9 hf
                        refine lv_tableIn (x := x104) (tgt := 571) hx hb dL_law_45 (by rw [c9]; decide) (by rw [c9]; decide) (by rw [c9]; rfl) (by decide) ?_
                        exact m_L_law_b571 hc hr hin hl0 hZ (f_L_law_b28 L xs n) ih h a0 a1 a2 a3 a4 v5 _ _ _ _ _ _ hX hf hq hn _ (lv_sub hl [0, 1, 2, 3, 4, 5] rfl)
                      · have hf := zif_f c9 hf
                        by_cases c9 : x104 = 8
                        · have hf := zif_t c9 hf
                          refine lv_tableIn (x := x104) (tgt := 584) hx hb dL_law_45 (by rw [c9]; decide) (by rw [c9]; decide) (by rw [c9]; rfl) (by decide) ?_
                          exact m_L_law_b584 hc hr hin hl0 hZ (f_L_law_b28 L xs n) ih h a0 a1 a2 a3 a4 v5 _ _ _ _ _ _ hX hf hq hn _ (lv_sub hl [0, 1, 2, 3, 4, 5] rfl)
                        · have hf := zif_f c9 hf
                          by_cases c9 : x104 = 9
                          · have hf := zif_t c9 hf
                            refine lv_tableIn (x := x104) (tgt := 640) hx hb dL_law_45 (by rw [c9]; decide) (by rw [c9]; decide) (by rw [c9]; rfl) (by decide) ?_
                            exact m_L_law_b640 hc hr hin hl0 hZ (f_L_law_b28 L xs n) ih h a0 a1 a2 a3 a4 v5 _ _ _ _ _ _ hX hf hq hn _ (lv_sub hl [0, 1, 2, 3, 4, 5] rfl)
                          · have hf := zif_f c9 hf
                            by_cases c9 : x104 = 10
                            · have hf := zif_t c9 hf
                              refine lv_tableIn (x := x104) (tgt := 696) hx hb dL_law_45 (by rw [c9]; decide) (by rw [c9]; decide) (by rw [c9]; rfl) (by decide) ?_
                              exact m_L_law_b696 hc hr hin hl0 hZ (f_L_law_b28 L xs n) ih h a0 a1 a2 a3 a4 v5 _ _ _ _ _ _ hX hf hq hn _ (lv_sub hl [0, 1, 2, 3, 4, 5] rfl)
                            · have hf := zif_f c9 hf
                              by_cases c9 : x104 = 11
                              · have hf := zif_t c9 hf
                                refine lv_tableIn (x := x104) (tgt := 764) hx hb dL_law_45 (by rw [c9]; decide) (by rw [c9]; decide) (by rw [c9]; rfl) (by decide) ?_
                                exact m_L_law_b764 hc hr hin hl0 hZ (f_L_law_b28 L xs n) ih h a0 a1 a2 a3 a4 v5 _ _ _ _ _ _ hX hf hq hn _ (lv_sub hl [0, 1, 2, 3, 4, 5] rfl)
                              · have hf := zif_f c9 hf
                                by_cases c9 : x104 = 12
                                · have hf := zif_t c9 hf
                                  refine lv_tableIn (x := x104) (tgt := 832) hx hb dL_law_45 (by rw [c9]; decide) (by rw [c9]; decide) (by rw [c9]; rfl) (by decide) ?_
                                  exact m_L_law_b832 hc hr hin hl0 hZ (f_L_law_b28 L xs n) ih h a0 a1 a2 a3 a4 v5 _ _ _ _ _ _ hX hf hq hn _ (lv_sub hl [0, 1, 2, 3, 4, 5] rfl)
                                · have hf := zif_f c9 hf
                                  by_cases c9 : x104 = 13
                                  · have hf := zif_t c9 hf
                                    refine lv_tableIn (x := x104) (tgt := 900) hx hb dL_law_45 (by rw [c9]; decide) (by rw [c9]; decide) (by rw [c9]; rfl) (by decide) ?_
                                    exact m_L_law_b900 hc hr hin hl0 hZ (f_L_law_b28 L xs n) ih h a0 a1 a2 a3 a4 v5 _ _ _ _ _ _ hX hf hq hn _ (lv_sub hl [0, 1, 2, 3, 4, 5] rfl)
                                  · have hf := zif_f c9 hf
                                    by_cases c9 : x104 = 14
                                    · have hf := zif_t c9 hf
                                      refine lv_tableIn (x := x104) (tgt := 968) hx hb dL_law_45 (by rw [c9]; decide) (by rw [c9]; decide) (by rw [c9]; rfl) (by decide) ?_
                                      exact m_L_law_b968 hc hr hin hl0 hZ (f_L_law_b28 L xs n) ih h a0 a1 a2 a3 a4 v5 _ _ _ _ _ _ hX hf hq hn _ (lv_sub hl [0, 1, 2, 3, 4, 5] rfl)
                                    · have hf := zif_f c9 hf
                                      by_cases c9 : x104 = 15
                                      · have hf := zif_t c9 hf
                                        refine lv_tableIn (x := x104) (tgt := 1036) hx hb dL_law_45 (by rw [c9]; decide) (by rw [c9]; decide) (by rw [c9]; rfl) (by decide) ?_
                                        exact m_L_law_b1036 hc hr hin hl0 hZ (f_L_law_b28 L xs n) ih h a0 a1 a2 a3 a4 v5 _ _ _ _ _ _ hX hf hq hn _ (lv_sub hl [0, 1, 2, 3, 4, 5] rfl)
                                      · have hf := zif_f c9 hf
                                        by_cases c9 : x104 = 16
                                        · have hf := zif_t c9 hf
                                          refine lv_tableIn (x := x104) (tgt := 1104) hx hb dL_law_45 (by rw [c9]; decide) (by rw [c9]; decide) (by rw [c9]; rfl) (by decide) ?_
                                          exact m_L_law_b1104 hc hr hin hl0 hZ (f_L_law_b28 L xs n) ih h a0 a1 a2 a3 a4 v5 _ _ _ _ _ _ hX hf hq hn _ (lv_sub hl [0, 1, 2, 3, 4, 5] rfl)
                                        · have hf := zif_f c9 hf
                                          by_cases c9 : x104 = 17
                                          · have hf := zif_t c9 hf
                                            refine lv_tableIn (x := x104) (tgt := 1184) hx hb dL_law_45 (by rw [c9]; decide) (by rw [c9]; decide) (by rw [c9]; rfl) (by decide) ?_
                                            exact m_L_law_b1184 hc hr hin hl0 hZ (f_L_law_b28 L xs n) ih h a0 a1 a2 a3 a4 v5 _ _ _ _ _ _ hX hf hq hn _ (lv_sub hl [0, 1, 2, 3, 4, 5] rfl)
                                          · have hf := zif_f c9 hf
                                            by_cases c9 : x104 = 18
                                            · have hf := zif_t c9 hf
                                              refine lv_tableIn (x := x104) (tgt := 1252) hx hb dL_law_45 (by rw [c9]; decide) (by rw [c9]; decide) (by rw [c9]; rfl) (by decide) ?_
                                              exact m_L_law_b1252 hc hr hin hl0 hZ (f_L_law_b28 L xs n) ih h a0 a1 a2 a3 a4 v5 _ _ _ _ _ _ hX hf hq hn _ (lv_sub hl [0, 1, 2, 3, 4, 5] rfl)
                                            · have hf := zif_f c9 hf
                                              by_cases c9 : x104 = 19
                                              · have hf := zif_t c9 hf
                                                refine lv_tableIn (x := x104) (tgt := 1332) hx hb dL_law_45 (by rw [c9]; decide) (by rw [c9]; decide) (by rw [c9]; rfl) (by decide) ?_
                                                exact m_L_law_b1332 hc hr hin hl0 hZ (f_L_law_b28 L xs n) ih h a0 a1 a2 a3 a4 v5 _ _ _ _ _ _ hX hf hq hn _ (lv_sub hl [0, 1, 2, 3, 4, 5] rfl)
                                              · have hf := zif_f c9 hf
                                                by_cases c9 : x104 = 20
                                                · have hf := zif_t c9 hf
                                                  refine lv_tableIn (x := x104) (tgt := 1412) hx hb dL_law_45 (by rw [c9]; decide) (by rw [c9]; decide) (by rw [c9]; rfl) (by decide) ?_
                                                  exact m_L_law_b1412 hc hr hin hl0 hZ (f_L_law_b28 L xs n) ih h a0 a1 a2 a3 a4 v5 _ _ _ _ _ _ hX hf hq hn _ (lv_sub hl [0, 1, 2, 3, 4, 5] rfl)
                                                · have hf := zif_f c9 hf
                                                  by_cases c9 : x104 = 21
                                                  · have hf := zif_t c9 hf
                                                    refine lv_tableIn (x := x104) (tgt := 1492) hx hb dL_law_45 (by rw [c9]; decide) (by rw [c9]; decide) (by rw [c9]; rfl) (by decide) ?_
                                                    exact m_L_law_b1492 hc hr hin hl0 hZ (f_L_law_b28 L xs n) ih h a0 a1 a2 a3 a4 v5 _ _ _ _ _ _ hX hf hq hn _ (lv_sub hl [0, 1, 2, 3, 4, 5] rfl)
                                                  · have hf := zif_f c9 hf
                                                    by_cases c9 : x104 = 22
                                                    · have hf := zif_t c9 hf
                                                      refine lv_tableIn (x := x104) (tgt := 1548) hx hb dL_law_45 (by rw [c9]; decide) (by rw [c9]; decide) (by rw [c9]; rfl) (by decide) ?_
                                                      exact m_L_law_b1548 hc hr hin hl0 hZ (f_L_law_b28 L xs n) ih h a0 a1 a2 a3 a4 v5 _ _ _ _ _ _ hX hf hq hn _ (lv_sub hl [0, 1, 2, 3, 4, 5] rfl)
                                                    · have hf := zif_f c9 hf
                                                      by_cases c9 : x104 = 23
                                                      · have hf := zif_t c9 hf
                                                        refine lv_tableIn (x := x104) (tgt := 1616) hx hb dL_law_45 (by rw [c9]; decide) (by rw [c9]; decide) (by rw [c9]; rfl) (by decide) ?_
                                                        exact m_L_law_b1616 hc hr hin hl0 hZ (f_L_law_b28 L xs n) ih h a0 a1 a2 a3 a4 v5 _ _ _ _ _ _ hX hf hq hn _ (lv_sub hl [0, 1, 2, 3, 4, 5] rfl)
                                                      · have hf := zif_f c9 hf
                                                        by_cases c9 : x104 = 24
                                                        · have hf := zif_t c9 hf
                                                          refine lv_tableIn (x := x104) (tgt := 1684) hx hb dL_law_45 (by rw [c9]; decide) (by rw [c9]; decide) (by rw [c9]; rfl) (by decide) ?_
                                                          exact m_L_law_b1684 hc hr hin hl0 hZ (f_L_law_b28 L xs n) ih h a0 a1 a2 a3 a4 v5 _ _ _ _ _ _ hX hf hq hn _ (lv_sub hl [0, 1, 2, 3, 4, 5] rfl)
                                                        · have hf := zif_f c9 hf
                                                          by_cases c9 : x104 = 25
                                                          · have hf := zif_t c9 hf
                                                            refine lv_tableIn (x := x104) (tgt := 1764) hx hb dL_law_45 (by rw [c9]; decide) (by rw [c9]; decide) (by rw [c9]; rfl) (by decide) ?_
                                                            exact m_L_law_b1764 hc hr hin hl0 hZ (f_L_law_b28 L xs n) ih h a0 a1 a2 a3 a4 v5 _ _ _ _ _ _ hX hf hq hn _ (lv_sub hl [0, 1, 2, 3, 4, 5] rfl)
                                                          · have hf := zif_f c9 hf
                                                            by_cases c9 : x104 = 26
                                                            · have hf := zif_t c9 hf
                                                              refine lv_tableIn (x := x104) (tgt := 1844) hx hb dL_law_45 (by rw [c9]; decide) (by rw [c9]; decide) (by rw [c9]; rfl) (by decide) ?_
                                                              exact m_L_law_b1844 hc hr hin hl0 hZ (f_L_law_b28 L xs n) ih h a0 a1 a2 a3 a4 v5 _ _ _ _ _ _ hX hf hq hn _ (lv_sub hl [0, 1, 2, 3, 4, 5] rfl)
                                                            · have hf := zif_f c9 hf
                                                              by_cases c9 : x104 = 27
                                                              · have hf := zif_t c9 hf
                                                                refine lv_tableIn (x := x104) (tgt := 1912) hx hb dL_law_45 (by rw [c9]; decide) (by rw [c9]; decide) (by rw [c9]; rfl) (by decide) ?_
                                                                exact m_L_law_b1912 hc hr hin hl0 hZ (f_L_law_b28 L xs n) ih h a0 a1 a2 a3 a4 v5 _ _ _ _ _ _ hX hf hq hn _ (lv_sub hl [0, 1, 2, 3, 4, 5] rfl)
                                                              · have hf := zif_f c9 hf
                                                                by_cases c9 : x104 = 28
                                                                · have hf := zif_t c9 hf
                                                                  refine lv_tableIn (x := x104) (tgt := 1968) hx hb dL_law_45 (by rw [c9]; decide) (by rw [c9]; decide) (by rw [c9]; rfl) (by decide) ?_
                                                                  exact m_L_law_b1968 hc hr hin hl0 hZ (f_L_law_b28 L xs n) ih h a0 a1 a2 a3 a4 v5 _ _ _ _ _ _ hX hf hq hn _ (lv_sub hl [0, 1, 2, 3, 4, 5] rfl)
                                                                · have hf := zif_f c9 hf
                                                                  by_cases c9 : x104 = 29
                                                                  · have hf := zif_t c9 hf
                                                                    refine lv_tableIn (x := x104) (tgt := 2045) hx hb dL_law_45 (by rw [c9]; decide) (by rw [c9]; decide) (by rw [c9]; rfl) (by decide) ?_
                                                                    exact m_L_law_b2045 hc hr hin hl0 hZ (f_L_law_b28 L xs n) ih h a0 a1 a2 a3 a4 v5 _ _ _ _ _ _ hX hf hq hn _ (lv_sub hl [0, 1, 2, 3, 4, 5] rfl)
                                                                  · have hf := zif_f c9 hf
                                                                    by_cases c9 : x104 = 30
                                                                    · have hf := zif_t c9 hf
                                                                      refine lv_tableIn (x := x104) (tgt := 2113) hx hb dL_law_45 (by rw [c9]; decide) (by rw [c9]; decide) (by rw [c9]; rfl) (by decide) ?_
                                                                      exact m_L_law_b2113 hc hr hin hl0 hZ (f_L_law_b28 L xs n) ih h a0 a1 a2 a3 a4 v5 _ _ _ _ _ _ hX hf hq hn _ (lv_sub hl [0, 1, 2, 3, 4, 5] rfl)
                                                                    · have hf := zif_f c9 hf
                                                                      by_cases c9 : x104 = 31
                                                                      · have hf := zif_t c9 hf
                                                                        refine lv_tableIn (x := x104) (tgt := 2181) hx hb dL_law_45 (by rw [c9]; decide) (by rw [c9]; decide) (by rw [c9]; rfl) (by decide) ?_
                                                                        exact m_L_law_b2181 hc hr hin hl0 hZ (f_L_law_b28 L xs n) ih h a0 a1 a2 a3 a4 v5 _ _ _ _ _ _ hX hf hq hn _ (lv_sub hl [0, 1, 2, 3, 4, 5] rfl)
                                                                      · have hf := zif_f c9 hf
                                                                        by_cases c9 : x104 = 32
                                                                        · have hf := zif_t c9 hf
                                                                          refine lv_tableIn (x := x104) (tgt := 2237) hx hb dL_law_45 (by rw [c9]; decide) (by rw [c9]; decide) (by rw [c9]; rfl) (by decide) ?_
                                                                          exact m_L_law_b2237 hc hr hin hl0 hZ (f_L_law_b28 L xs n) ih h a0 a1 a2 a3 a4 v5 _ _ _ _ _ _ hX hf hq hn _ (lv_sub hl [0, 1, 2, 3, 4, 5] rfl)
                                                                        · have hf := zif_f c9 hf
                                                                          by_cases c9 : x104 = 33
                                                                          · have hf := zif_t c9 hf
                                                                            refine lv_tableIn (x := x104) (tgt := 2305) hx hb dL_law_45 (by rw [c9]; decide) (by rw [c9]; decide) (by rw [c9]; rfl) (by decide) ?_
                                                                            exact m_L_law_b2305 hc hr hin hl0 hZ (f_L_law_b28 L xs n) ih h a0 a1 a2 a3 a4 v5 _ _ _ _ _ _ hX hf hq hn _ (lv_sub hl [0, 1, 2, 3, 4, 5] rfl)
                                                                          · have hf := zif_f c9 hf
                                                                            by_cases c9 : x104 = 34
                                                                            · have hf := zif_t c9 hf
                                                                              refine lv_tableIn (x := x104) (tgt := 2373) hx hb dL_law_45 (by rw [c9]; decide) (by rw [c9]; decide) (by rw [c9]; rfl) (by decide) ?_
                                                                              exact m_L_law_b2373 hc hr hin hl0 hZ (f_L_law_b28 L xs n) ih h a0 a1 a2 a3 a4 v5 _ _ _ _ _ _ hX hf hq hn _ (lv_sub hl [0, 1, 2, 3, 4, 5] rfl)
                                                                            · have hf := zif_f c9 hf
                                                                              by_cases c9 : x104 = 35
                                                                              · have hf := zif_t c9 hf
                                                                                refine lv_tableIn (x := x104) (tgt := 2386) hx hb dL_law_45 (by rw [c9]; decide) (by rw [c9]; decide) (by rw [c9]; rfl) (by decide) ?_
                                                                                exact m_L_law_b2386 hc hr hin hl0 hZ (f_L_law_b28 L xs n) ih h a0 a1 a2 a3 a4 v5 _ _ _ _ _ _ hX hf hq hn _ (lv_sub hl [0, 1, 2, 3, 4, 5] rfl)
                                                                              · have hf := zif_f c9 hf
                                                                                by_cases c9 : x104 = 36
                                                                                · have hf := zif_t c9 hf
                                                                                  refine lv_tableIn (x := x104) (tgt := 2442) hx hb dL_law_45 (by rw [c9]; decide) (by rw [c9]; decide) (by rw [c9]; rfl) (by decide) ?_
                                                                                  exact m_L_law_b2442 hc hr hin hl0 hZ (f_L_law_b28 L xs n) ih h a0 a1 a2 a3 a4 v5 _ _ _ _ _ _ hX hf hq hn _ (lv_sub hl [0, 1, 2, 3, 4, 5] rfl)
                                                                                · have hf := zif_f c9 hf
                                                                                  by_cases c9 : x104 = 37
                                                                                  · have hf := zif_t c9 hf
                                                                                    refine lv_tableIn (x := x104) (tgt := 2498) hx hb dL_law_45 (by rw [c9]; decide) (by rw [c9]; decide) (by rw [c9]; rfl) (by decide) ?_
                                                                                    exact m_L_law_b2498 hc hr hin hl0 hZ (f_L_law_b28 L xs n) ih h a0 a1 a2 a3 a4 v5 _ _ _ _ _ _ hX hf hq hn _ (lv_sub hl [0, 1, 2, 3, 4, 5] rfl)
                                                                                  · have hf := zif_f c9 hf
                                                                                    by_cases c9 : x104 = 38
                                                                                    · have hf := zif_t c9 hf
                                                                                      refine lv_tableIn (x := x104) (tgt := 2554) hx hb dL_law_45 (by rw [c9]; decide) (by rw [c9]; decide) (by rw [c9]; rfl) (by decide) ?_
                                                                                      exact m_L_law_b2554 hc hr hin hl0 hZ (f_L_law_b28 L xs n) ih h a0 a1 a2 a3 a4 v5 _ _ _ _ _ _ hX hf hq hn _ (lv_sub hl [0, 1, 2, 3, 4, 5] rfl)
                                                                                    · have hf := zif_f c9 hf
                                                                                      by_cases c9 : x104 = 39
                                                                                      · have hf := zif_t c9 hf
                                                                                        refine lv_tableIn (x := x104) (tgt := 2610) hx hb dL_law_45 (by rw [c9]; decide) (by rw [c9]; decide) (by rw [c9]; rfl) (by decide) ?_
                                                                                        exact m_L_law_b2610 hc hr hin hl0 hZ (f_L_law_b28 L xs n) ih h a0 a1 a2 a3 a4 v5 _ _ _ _ _ _ hX hf hq hn _ (lv_sub hl [0, 1, 2, 3, 4, 5] rfl)
                                                                                      · have hf := zif_f c9 hf
                                                                                        by_cases c9 : x104 = 40
                                                                                        · have hf := zif_t c9 hf
                                                                                          refine lv_tableIn (x := x104) (tgt := 2654) hx hb dL_law_45 (by rw [c9]; decide) (by rw [c9]; decide) (by rw [c9]; rfl) (by decide) ?_
                                                                                          exact m_L_law_b2654 hc hr hin hl0 hZ (f_L_law_b28 L xs n) ih h a0 a1 a2 a3 a4 v5 _ _ _ _ _ _ hX hf hq hn _ (lv_sub hl [0, 1, 2, 3, 4, 5] rfl)
                                                                                        · have hf := zif_f c9 hf
                                                                                          by_cases c9 : x104 = 41
                                                                                          · have hf := zif_t c9 hf
                                                                                            refine lv_tableIn (x := x104) (tgt := 2710) hx hb dL_law_45 (by rw [c9]; decide) (by rw [c9]; decide) (by rw [c9]; rfl) (by decide) ?_
                                                                                            exact m_L_law_b2710 hc hr hin hl0 hZ (f_L_law_b28 L xs n) ih h a0 a1 a2 a3 a4 v5 _ _ _ _ _ _ hX hf hq hn _ (lv_sub hl [0, 1, 2, 3, 4, 5] rfl)
                                                                                          · have hf := zif_f c9 hf
                                                                                            by_cases c9 : x104 = 42
                                                                                            · have hf := zif_t c9 hf
                                                                                              refine lv_tableIn (x := x104) (tgt := 2790) hx hb dL_law_45 (by rw [c9]; decide) (by rw [c9]; decide) (by rw [c9]; rfl) (by decide) ?_
                                                                                              exact m_L_law_b2790 hc hr hin hl0 hZ (f_L_law_b28 L xs n) ih h a0 a1 a2 a3 a4 v5 _ _ _ _ _ _ hX hf hq hn _ (lv_sub hl [0, 1, 2, 3, 4, 5] rfl)
                                                                                            · have hf := zif_f c9 hf
                                                                                              by_cases c9 : x104 = 43
                                                                                              · have hf := zif_t c9 hf
                                                                                                refine lv_tableIn (x := x104) (tgt := 2858) hx hb dL_law_45 (by rw [c9]; decide) (by rw [c9]; decide) (by rw [c9]; rfl) (by decide) ?_
                                                                                                exact m_L_law_b2858 hc hr hin hl0 hZ (f_L_law_b28 L xs n) ih h a0 a1 a2 a3 a4 v5 _ _ _ _ _ _ hX hf hq hn _ (lv_sub hl [0, 1, 2, 3, 4, 5] rfl)
                                                                                              · have hf := zif_f c9 hf
                                                                                                by_cases c9 : x104 = 44
                                                                                                · have hf := zif_t c9 hf
                                                                                                  refine lv_tableIn (x := x104) (tgt := 2938) hx hb dL_law_45 (by rw [c9]; decide) (by rw [c9]; decide) (by rw [c9]; rfl) (by decide) ?_
                                                                                                  exact m_L_law_b2938 hc hr hin hl0 hZ (f_L_law_b28 L xs n) ih h a0 a1 a2 a3 a4 v5 _ _ _ _ _ _ hX hf hq hn _ (lv_sub hl [0, 1, 2, 3, 4, 5] rfl)
                                                                                                · have hf := zif_f c9 hf
                                                                                                  by_cases c9 : x104 = 45
                                                                                                  · have hf := zif_t c9 hf
                                                                                                    refine lv_tableIn (x := x104) (tgt := 3006) hx hb dL_law_45 (by rw [c9]; decide) (by rw [c9]; decide) (by rw [c9]; rfl) (by decide) ?_
                                                                                                    exact m_L_law_b3006 hc hr hin hl0 hZ (f_L_law_b28 L xs n) ih h a0 a1 a2 a3 a4 v5 _ _ _ _ _ _ hX hf hq hn _ (lv_sub hl [0, 1, 2, 3, 4, 5] rfl)
                                                                                                  · have hf := zif_f c9 hf
                                                                                                    by_cases c9 : x104 = 46
                                                                                                    · have hf := zif_t c9 hf
                                                                                                      refine lv_tableIn (x := x104) (tgt := 3086) hx hb dL_law_45 (by rw [c9]; decide) (by rw [c9]; decide) (by rw [c9]; rfl) (by decide) ?_
                                                                                                      exact m_L_law_b3086 hc hr hin hl0 hZ (f_L_law_b28 L xs n) ih h a0 a1 a2 a3 a4 v5 _ _ _ _ _ _ hX hf hq hn _ (lv_sub hl [0, 1, 2, 3, 4, 5] rfl)
                                                                                                    · have hf := zif_f c9 hf
                                                                                                      by_cases c9 : x104 = 47
                                                                                                      · have hf := zif_t c9 hf
                                                                                                        refine lv_tableIn (x := x104) (tgt := 3154) hx hb dL_law_45 (by rw [c9]; decide) (by rw [c9]; decide) (by rw [c9]; rfl) (by decide) ?_
                                                                                                        exact m_L_law_b3154 hc hr hin hl0 hZ (f_L_law_b28 L xs n) ih h a0 a1 a2 a3 a4 v5 _ _ _ _ _ _ hX hf hq hn _ (lv_sub hl [0, 1, 2, 3, 4, 5] rfl)
                                                                                                      · have hf := zif_f c9 hf
                                                                                                        by_cases c9 : x104 = 48
                                                                                                        · have hf := zif_t c9 hf
                                                                                                          refine lv_tableIn (x := x104) (tgt := 3222) hx hb dL_law_45 (by rw [c9]; decide) (by rw [c9]; decide) (by rw [c9]; rfl) (by decide) ?_
                                                                                                          exact m_L_law_b3222 hc hr hin hl0 hZ (f_L_law_b28 L xs n) ih h a0 a1 a2 a3 a4 v5 _ _ _ _ _ _ hX hf hq hn _ (lv_sub hl [0, 1, 2, 3, 4, 5] rfl)
                                                                                                        · have hf := zif_f c9 hf
                                                                                                          by_cases c9 : x104 = 49
                                                                                                          · have hf := zif_t c9 hf
                                                                                                            refine lv_tableIn (x := x104) (tgt := 3278) hx hb dL_law_45 (by rw [c9]; decide) (by rw [c9]; decide) (by rw [c9]; rfl) (by decide) ?_
                                                                                                            exact m_L_law_b3278 hc hr hin hl0 hZ (f_L_law_b28 L xs n) ih h a0 a1 a2 a3 a4 v5 _ _ _ _ _ _ hX hf hq hn _ (lv_sub hl [0, 1, 2, 3, 4, 5] rfl)
                                                                                                          · have hf := zif_f c9 hf
                                                                                                            by_cases c9 : x104 = 50
                                                                                                            · have hf := zif_t c9 hf
                                                                                                              refine lv_tableIn (x := x104) (tgt := 3334) hx hb dL_law_45 (by rw [c9]; decide) (by rw [c9]; decide) (by rw [c9]; rfl) (by decide) ?_
                                                                                                              exact m_L_law_b3334 hc hr hin hl0 hZ (f_L_law_b28 L xs n) ih h a0 a1 a2 a3 a4 v5 _ _ _ _ _ _ hX hf hq hn _ (lv_sub hl [0, 1, 2, 3, 4, 5] rfl)
                                                                                                            · have hf := zif_f c9 hf
                                                                                                              by_cases c9 : x104 = 51
                                                                                                              · have hf := zif_t c9 hf
                                                                                                                refine lv_tableIn (x := x104) (tgt := 3378) hx hb dL_law_45 (by rw [c9]; decide) (by rw [c9]; decide) (by rw [c9]; rfl) (by decide) ?_
                                                                                                                exact m_L_law_b3378 hc hr hin hl0 hZ (f_L_law_b28 L xs n) ih h a0 a1 a2 a3 a4 v5 _ _ _ _ _ _ hX hf hq hn _ (lv_sub hl [0, 1, 2, 3, 4, 5] rfl)
                                                                                                              · have hf := zif_f c9 hf
                                                                                                                by_cases c9 : x104 = 52
                                                                                                                · have hf := zif_t c9 hf
                                                                                                                  refine lv_tableIn (x := x104) (tgt := 3414) hx hb dL_law_45 (by rw [c9]; decide) (by rw [c9]; decide) (by rw [c9]; rfl) (by decide) ?_
                                                                                                                  exact m_L_law_b3414 hc hr hin hl0 hZ (f_L_law_b28 L xs n) ih h a0 a1 a2 a3 a4 v5 _ _ _ _ _ _ hX hf hq hn _ (lv_sub hl [0, 1, 2, 3, 4, 5] rfl)
                                                                                                                · have hf := zif_f c9 hf
                                                                                                                  cases hf
set_option maxHeartbeats 4000000 in
set_option maxRecDepth 100000 in
theorem m_L_law {p : Program} {l : Launch} {e : Env} {s : State} {m : MethodId} {args : Array Value} {below : List Frame} {meth : Method} {c : Code} {D : va_G} {dA : Nat → ClassId} {b0 : Nat} {gs : Nat → Option Nat} {h : PH} (a0 : Nat) (hc : zC D dA b0 gs x.cls cL_law 9 p c s m args meth) (hr : meth.sig.returnType = ret) (hin : meth.name = x.name) {r : Int32} {hh : PH} {mc ms : Nat} {L : Nat} {xs : Nat → Int32} (hl0 : l.stackTraces = false) {Q : State → Prop} (hZ : ∀ (pc : Nat) (ls : Array Slot) (H : Heap) (locs : List Loc), decode cL_law pc = .ok (.ireturn, 1) → zM D dA b0 gs s hh H locs → W p l e ({ frames := 16, cells := mc, slots := ms, locals := 3214 } : Room) s m args below meth c H locs mc ms Q (F0 m pc ls [.int r])) (hX : va_X a0 L xs s s.heap ∧ a0 < b0) (hf : f_L_law L xs h a0 = some (r, hh, mc, ms)) (hn : zM D dA b0 gs s h s.heap []) (ls : Array Slot) (hl : lv_has ls 9 [(0, .ref a0)]) : W p l e ({ frames := 16, cells := mc, slots := ms, locals := 3214 } : Room) s m args below meth c s.heap [] 0 0 Q (F0 m 0 ls []) := by
  unfold f_L_law at hf
  have hq : 0 + mc = mc ∧ 0 + ms = ms := ⟨Nat.zero_add _, Nat.zero_add _⟩
  have hx := hc.x
  have hb := hc.b
  refine zr_new hc hn hq (ci := 0) rfl rfl in_X1 tyX1_ok q131 q132 q84 (zd_X1) hf dL_law_0 (fun a101 h102 H cells slots C9 S9 hf hq hn => ?_)
  refine lv_dup hx hb dL_law_3 rfl ?_
  refine zr_cI (As := []) (rest := [.ref a101]) hc hn hq rfl hd_X1_init (lw_meth q135) q133 q134 q84 (Nat.le_of_ble_eq_true rfl) (Nat.le_of_ble_eq_true rfl) (fun _ _ _ _ q => m_X1_init l D dA b0 gs h102 a101 q) hf dL_law_4 hl.1 rfl rfl (zroom (Nat.le_of_ble_eq_true rfl)) (fun x103 h104 H locs cells slots C9 S9 hf hq hn => ?_)
  refine lv_astore_n (x := a101) (i := 1) (lv' := [(1, .ref a101), (0, .ref a0)]) hx hb dL_law_7 rfl hl (by decide) rfl (fun ls hl => ?_)
  refine zr_new hc hn hq (ci := 3) rfl rfl in_X4 tyX4_ok q2092 q2093 q91 (zd_X4) hf dL_law_8 (fun a105 h106 H cells slots C9 S9 hf hq hn => ?_)
  refine lv_dup hx hb dL_law_11 rfl ?_
  refine zr_cI (As := []) (rest := [.ref a105]) hc hn hq rfl hd_X4_init (lw_meth q2096) q2094 q2095 q91 (Nat.le_of_ble_eq_true rfl) (Nat.le_of_ble_eq_true rfl) (fun _ _ _ _ q => m_X4_init l D dA b0 gs h106 a105 q) hf dL_law_12 hl.1 rfl rfl (zroom (Nat.le_of_ble_eq_true rfl)) (fun x107 h108 H locs cells slots C9 S9 hf hq hn => ?_)
  refine lv_astore_n (x := a105) (i := 2) (lv' := [(2, .ref a105), (1, .ref a101), (0, .ref a0)]) hx hb dL_law_15 rfl hl (by decide) rfl (fun ls hl => ?_)
  refine lv_iconst (v := (1 : Int32)) hx hb dL_law_16 (by decide) ?_
  refine zr_na3 hc hn hq q2193 hf dL_law_17 (fun a109 h110 H cells slots C9 S9 hf hq hn => ?_)
  refine lv_astore_n (x := a109) (i := 3) (lv' := [(3, .ref a109), (2, .ref a105), (1, .ref a101), (0, .ref a0)]) hx hb dL_law_19 rfl hl (by decide) rfl (fun ls hl => ?_)
  refine lv_iconst (v := (1 : Int32)) hx hb dL_law_20 (by decide) ?_
  refine zr_na4 hc hn hq q2637 hf dL_law_21 (fun a111 h112 H cells slots C9 S9 hf hq hn => ?_)
  refine lv_astore (x := a111) (lv' := [(4, .ref a111), (3, .ref a109), (2, .ref a105), (1, .ref a101), (0, .ref a0)]) hx hb dL_law_23 hl (by decide) rfl (fun ls hl => ?_)
  refine lv_iconst (v := (0 : Int32)) hx hb dL_law_25 (by decide) ?_
  refine lv_istore (lv' := [(5, .int (0 : Int32)), (4, .ref a111), (3, .ref a109), (2, .ref a105), (1, .ref a101), (0, .ref a0)]) hx hb dL_law_26 hl (by decide) rfl (fun ls hl => ?_)
  exact m_L_law_b28 hc hr hin hl0 hZ zFU h112 a0 a101 a105 a109 a111 (0 : Int32) _ _ _ _ _ _ hX hf hq hn _ (lv_sub hl [5, 4, 3, 2, 1, 0] rfl)
