-- the methods as functional programs over abstract heaps (printed by main.py)
def f_E_init (a0 : Nat) (M : zHp) : Option (zHp) :=
  zb2 (znaR M 22 3 3) fun x1 M3 =>
  (pR M3 1 a0 1 x1).bind fun M4 =>
  some M4
def f_E_before (a0 : Nat) (a1 : Int) (a2 : Int) (M : zHp) : Option (Int × zHp) :=
  if zk M a0 = 1 then
    (gI M 1 a0 0).bind fun x1 =>
    if zlt x1 a1 then
      some (1, M)
    else
    (gI M 1 a0 0).bind fun x4 =>
    if zeq x4 a1 then
      (gI M 1 a0 1).bind fun x7 =>
      if zle x7 a2 then
        some (0, M)
      else
      some (1, M)
    else
    some (0, M)
  else none
def f_E_gone (a0 : Nat) (a1 : Int) (M : zHp) : Option (Int × zHp) :=
  if zk M a0 = 1 then
    (gI M 1 a0 2).bind fun x1 =>
    if zeq x1 0 then
      (gI M 1 a0 3).bind fun x4 =>
      if zlt x4 0 then
        some (0, M)
      else
      (gI M 1 a0 3).bind fun x7 =>
      if zlt a1 x7 then
        some (0, M)
      else
      some (1, M)
    else
    some (1, M)
  else none
def f_E_value (a0 : Nat) (M : zHp) : Option (Int × zHp) :=
  if zk M a0 = 1 then
    (gR M 1 a0 0).bind fun x1 =>
    (gR M 2 x1 1).bind fun x3 =>
    (gI M 1 a0 4).bind fun x5 =>
    (ldI M 20 x3 x5).bind fun x7 =>
    some (x7, M)
  else none
def f_E_leave (a0 : Nat) (M : zHp) : Option (zHp) :=
  if zk M a0 = 1 then
    (gR M 1 a0 0).bind fun x1 =>
    if x1 = 0 then
      (pR M 1 a0 0 0).bind fun M4 =>
      some M4
    else
    (gI M 1 a0 2).bind fun x6 =>
    if zeq x6 0 then
      (gR M 1 a0 0).bind fun x11 =>
      (gI M 2 x11 2).bind fun x13 =>
      (pI M 2 x11 2 (zsub x13 1)).bind fun M15 =>
      (pR M15 1 a0 0 0).bind fun M17 =>
      some M17
    else
    (pR M 1 a0 0 0).bind fun M9 =>
    some M9
  else none
def f_E_settle (a0 : Nat) (a1 : Nat) (a2 : Int) (M : zHp) : Option (zHp) :=
  if zk M a0 = 1 then
    (f_E_leave a0 M).bind fun M2 =>
    (pR M2 1 a0 0 a1).bind fun M3 =>
    (pI M3 1 a0 4 a2).bind fun M5 =>
    (gI M5 1 a0 2).bind fun x7 =>
    if zeq x7 0 then
      (gI M5 2 a1 2).bind fun x10 =>
      (pI M5 2 a1 2 (zadd x10 1)).bind fun M12 =>
      some M12
    else
    some M5
  else none
def f_S_init (a0 : Nat) (M : zHp) : Option (zHp) :=
  zb2 (znaI M 20 16 16) fun x1 M3 =>
  (pR M3 2 a0 0 x1).bind fun M4 =>
  zb2 (znaI M4 20 16 16) fun x6 M8 =>
  (pR M8 2 a0 1 x6).bind fun M9 =>
  zb2 (znaI M9 20 16 16) fun x11 M13 =>
  (pR M13 2 a0 2 x11).bind fun M14 =>
  some M14
def f_S_begin (a0 : Nat) (a1 : Int) (M : zHp) : Option (zHp) :=
  if zk M a0 = 2 then
    (pI M 2 a0 0 a1).bind fun M1 =>
    (pI M1 2 a0 1 0).bind fun M3 =>
    (pI M3 2 a0 2 0).bind fun M5 =>
    (pR M5 2 a0 3 0).bind fun M7 =>
    some M7
  else none
def f_S_write (a0 : Nat) (a1 : Int) (a2 : Int) (a3 : Int) (M : zHp) : Option (Int × zHp) :=
  if zk M a0 = 2 then
    (gR M 2 a0 0).bind fun x1 =>
    (gI M 2 a0 1).bind fun x3 =>
    (stI M 20 x1 x3 a1).bind fun M5 =>
    (gR M5 2 a0 1).bind fun x7 =>
    (gI M5 2 a0 1).bind fun x9 =>
    (stI M5 20 x7 x9 a2).bind fun M11 =>
    (gR M11 2 a0 2).bind fun x13 =>
    (gI M11 2 a0 1).bind fun x15 =>
    (stI M11 20 x13 x15 a3).bind fun M17 =>
    (gI M17 2 a0 1).bind fun x19 =>
    (pI M17 2 a0 1 (zadd x19 1)).bind fun M21 =>
    (gI M21 2 a0 1).bind fun x23 =>
    some ((zsub x23 1), M21)
  else none
def f_Mt_init (a0 : Nat) (M : zHp) : Option (zHp) :=
  zb2 (znew M 1) fun x1 M4 =>
  (f_E_init x1 M4).bind fun M6 =>
  (pR M6 3 a0 0 x1).bind fun M7 =>
  some M7
def f_Mt_last_L13 (κ : Nat → zHp → Option (Nat × zHp)) (a1 : Int) (a2 : Int) (a4 : Int) : Nat → Nat → zHp → Option (Nat × zHp)
  | 0, _, _ => none
  | n + 1, v3, M =>
    (gR M 1 v3 1).bind fun x4 =>
    (ldR M 22 x4 a4).bind fun x6 =>
    if x6 = 0 then
      κ v3 M
    else
    (gR M 1 v3 1).bind fun x9 =>
    (ldR M 22 x9 a4).bind fun x11 =>
    zb2 (f_E_before x11 a1 a2 M) fun x15 M14 =>
    if zeq x15 0 then
      κ v3 M14
    else
    (gR M14 1 v3 1).bind fun x17 =>
    (ldR M14 22 x17 a4).bind fun x19 =>
    f_Mt_last_L13 κ a1 a2 a4 n x19 M14
def f_Mt_last_L8 (κ : Nat → zHp → Option (Nat × zHp)) (a1 : Int) (a2 : Int) : Nat → Nat → Int → zHp → Option (Nat × zHp)
  | 0, _, _, _ => none
  | n + 1, v3, v4, M =>
    if zlt v4 0 then
      κ v3 M
    else
    f_Mt_last_L13 (fun v21 M22 =>
      f_Mt_last_L8 κ a1 a2 n v21 (zadd v4 (-1)) M22) a1 a2 v4 zfu v3 M
def f_Mt_last (a0 : Nat) (a1 : Int) (a2 : Int) (M : zHp) : Option (Nat × zHp) :=
  if zk M a0 = 3 then
    (gR M 3 a0 0).bind fun x1 =>
    f_Mt_last_L8 (fun v23 M24 =>
      some (v23, M24)) a1 a2 zfu x1 2 M
  else none
def f_Mt_insert_L11 (κ : Nat → zHp → Option (zHp)) (a1 : Nat) (a3 : Int) : Nat → Nat → zHp → Option (zHp)
  | 0, _, _ => none
  | n + 1, v2, M =>
    (gR M 1 v2 1).bind fun x4 =>
    (ldR M 22 x4 a3).bind fun x6 =>
    if x6 = 0 then
      κ v2 M
    else
    (gR M 1 v2 1).bind fun x9 =>
    (ldR M 22 x9 a3).bind fun x11 =>
    (gI M 1 a1 0).bind fun x13 =>
    (gI M 1 a1 1).bind fun x15 =>
    zb2 (f_E_before x11 x13 x15 M) fun x19 M18 =>
    if zeq x19 0 then
      κ v2 M18
    else
    (gR M18 1 v2 1).bind fun x21 =>
    (ldR M18 22 x21 a3).bind fun x23 =>
    f_Mt_insert_L11 κ a1 a3 n x23 M18
def f_Mt_insert_L7 (κ : zHp → Option (zHp)) (a1 : Nat) : Nat → Nat → Int → zHp → Option (zHp)
  | 0, _, _, _ => none
  | n + 1, v2, v3, M =>
    if zlt v3 0 then
      κ M
    else
    f_Mt_insert_L11 (fun v25 M26 =>
      (gI M26 1 a1 1).bind fun x27 =>
      if zeq (zshl 1 v3) 0 then none else
      if zeq (zrem x27 (zshl 1 v3)) 0 then
        (gR M26 1 a1 1).bind fun x36 =>
        (gR M26 1 v25 1).bind fun x39 =>
        (ldR M26 22 x39 v3).bind fun x41 =>
        (stR M26 22 x36 v3 x41).bind fun M43 =>
        (gR M43 1 v25 1).bind fun x46 =>
        (stR M43 22 x46 v3 a1).bind fun M48 =>
        f_Mt_insert_L7 κ a1 n v25 (zadd v3 (-1)) M48
      else
      (gR M26 1 a1 1).bind fun x30 =>
      (stR M26 22 x30 v3 0).bind fun M33 =>
      f_Mt_insert_L7 κ a1 n v25 (zadd v3 (-1)) M33) a1 v3 zfu v2 M
def f_Mt_insert (a0 : Nat) (a1 : Nat) (M : zHp) : Option (zHp) :=
  if zk M a0 = 3 then
    (gR M 3 a0 0).bind fun x1 =>
    f_Mt_insert_L7 (fun M51 =>
      (gI M51 3 a0 0).bind fun x52 =>
      (pI M51 3 a0 0 (zadd x52 1)).bind fun M54 =>
      some M54) a1 zfu x1 2 M
  else none
def f_Mt_find (a0 : Nat) (a1 : Int) (a2 : Int) (M : zHp) : Option (Nat × zHp) :=
  if zk M a0 = 3 then
    zb2 (f_Mt_last a0 a1 a2 M) fun x3 M2 =>
    (gR M2 1 x3 1).bind fun x4 =>
    (ldR M2 22 x4 0).bind fun x6 =>
    if x6 = 0 then
      some (0, M2)
    else
    (gI M2 1 x6 0).bind fun x9 =>
    if zeq x9 a1 then
      some (x6, M2)
    else
    some (0, M2)
  else none
def f_Mt_clear_L2 (κ : zHp → Option (zHp)) (a0 : Nat) : Nat → Int → zHp → Option (zHp)
  | 0, _, _ => none
  | n + 1, v1, M =>
    if zle 3 v1 then
      κ M
    else
    (gR M 3 a0 0).bind fun x2 =>
    (gR M 1 x2 1).bind fun x4 =>
    (stR M 22 x4 v1 0).bind fun M6 =>
    f_Mt_clear_L2 κ a0 n (zadd v1 1) M6
def f_Mt_clear (a0 : Nat) (M : zHp) : Option (zHp) :=
  if zk M a0 = 3 then
    f_Mt_clear_L2 (fun M8 =>
      (pI M8 3 a0 0 0).bind fun M9 =>
      some M9) a0 zfu 0 M
  else none
def f_Mt_begin (a0 : Nat) (a1 : Int) (M : zHp) : Option (zHp) :=
  if zk M a0 = 3 then
    zb2 (f_Mt_last a0 a1 2147483647 M) fun x3 M2 =>
    (gR M2 1 x3 1).bind fun x4 =>
    (ldR M2 22 x4 0).bind fun x6 =>
    (pR M2 3 a0 1 x6).bind fun M8 =>
    some M8
  else none
def f_Mt_look (a0 : Nat) (M : zHp) : Option (Nat × zHp) :=
  if zk M a0 = 3 then
    (gR M 3 a0 1).bind fun x1 =>
    some (x1, M)
  else none
def f_Mt_step (a0 : Nat) (M : zHp) : Option (zHp) :=
  if zk M a0 = 3 then
    (gR M 3 a0 1).bind fun x1 =>
    (gR M 1 x1 1).bind fun x3 =>
    (ldR M 22 x3 0).bind fun x5 =>
    (pR M 3 a0 1 x5).bind fun M7 =>
    some M7
  else none
def f_Tb_init (a0 : Nat) (M : zHp) : Option (zHp) :=
  zb2 (znaR M 22 8 8) fun x1 M3 =>
  (pR M3 4 a0 0 x1).bind fun M4 =>
  some M4
def f_Tb_bits (a0 : Int) (M : zHp) : Option (Int × zHp) :=
  some ((zor (zshl 1 (zrem (zadd (zmul 5 a0) 1) 32)) (zshl 1 (zrem (zadd (zmul 11 a0) 7) 32))), M)
def f_Tb_add (a0 : Nat) (a1 : Nat) (M : zHp) : Option (zHp) :=
  if zk M a0 = 4 then
    (gR M 4 a0 0).bind fun x1 =>
    (gI M 4 a0 0).bind fun x3 =>
    (stR M 22 x1 x3 a1).bind fun M5 =>
    (gI M5 4 a0 0).bind fun x7 =>
    (pI M5 4 a0 0 (zadd x7 1)).bind fun M9 =>
    (gI M9 4 a0 1).bind fun x11 =>
    (gI M9 1 a1 0).bind fun x13 =>
    zb2 (f_Tb_bits x13 M9) fun x17 M16 =>
    (pI M16 4 a0 1 (zor x11 x17)).bind fun M18 =>
    some M18
  else none
def f_Tb_may (a0 : Nat) (a1 : Int) (M : zHp) : Option (Int × zHp) :=
  if zk M a0 = 4 then
    (gR M 4 a0 0).bind fun x1 =>
    (ldR M 22 x1 0).bind fun x3 =>
    (gI M 1 x3 0).bind fun x5 =>
    if zlt a1 x5 then
      some (0, M)
    else
    (gR M 4 a0 0).bind fun x8 =>
    (gI M 4 a0 0).bind fun x10 =>
    (ldR M 22 x8 (zsub x10 1)).bind fun x12 =>
    (gI M 1 x12 0).bind fun x14 =>
    if zlt x14 a1 then
      some (0, M)
    else
    (gI M 4 a0 1).bind fun x17 =>
    zb2 (f_Tb_bits a1 M) fun x21 M20 =>
    zb2 (f_Tb_bits a1 M20) fun x24 M23 =>
    if zeq (zand x17 x21) x24 then
      some (1, M23)
    else
    some (0, M23)
  else none
def f_Tb_place_L8 (κ : Int → zHp → Option (Int × zHp)) (a0 : Nat) (a1 : Int) (a2 : Int) : Nat → Int → Int → zHp → Option (Int × zHp)
  | 0, _, _, _ => none
  | n + 1, v3, v4, M =>
    if zle v4 v3 then
      κ v3 M
    else
    (gR M 4 a0 0).bind fun x4 =>
    (ldR M 22 x4 (zdiv (zadd v3 v4) 2)).bind fun x6 =>
    zb2 (f_E_before x6 a1 a2 M) fun x10 M9 =>
    if zeq x10 0 then
      f_Tb_place_L8 κ a0 a1 a2 n v3 (zdiv (zadd v3 v4) 2) M9
    else
    f_Tb_place_L8 κ a0 a1 a2 n (zadd (zdiv (zadd v3 v4) 2) 1) v4 M9
def f_Tb_place (a0 : Nat) (a1 : Int) (a2 : Int) (M : zHp) : Option (Int × zHp) :=
  if zk M a0 = 4 then
    (gI M 4 a0 0).bind fun x1 =>
    f_Tb_place_L8 (fun v12 M13 =>
      some (v12, M13)) a0 a1 a2 zfu 0 x1 M
  else none
def f_Tb_find (a0 : Nat) (a1 : Int) (a2 : Int) (M : zHp) : Option (Nat × zHp) :=
  if zk M a0 = 4 then
    zb2 (f_Tb_place a0 a1 a2 M) fun x3 M2 =>
    (gI M2 4 a0 0).bind fun x4 =>
    if zle x4 x3 then
      some (0, M2)
    else
    (gR M2 4 a0 0).bind fun x7 =>
    (ldR M2 22 x7 x3).bind fun x9 =>
    (gI M2 1 x9 0).bind fun x11 =>
    if zeq x11 a1 then
      (gR M2 4 a0 0).bind fun x14 =>
      (ldR M2 22 x14 x3).bind fun x16 =>
      some (x16, M2)
    else
    some (0, M2)
  else none
def f_Lv_init (a0 : Nat) (a1 : Int) (M : zHp) : Option (zHp) :=
  zb2 (znaR M 23 30 a1) fun x1 M3 =>
  (pR M3 5 a0 0 x1).bind fun M4 =>
  some M4
def f_Lv_entries_L4 (κ : Int → zHp → Option (Int × zHp)) (a0 : Nat) : Nat → Int → Int → zHp → Option (Int × zHp)
  | 0, _, _, _ => none
  | n + 1, v1, v2, M =>
    (gI M 5 a0 0).bind fun x1 =>
    if zle x1 v2 then
      κ v1 M
    else
    (gR M 5 a0 0).bind fun x4 =>
    (ldR M 23 x4 v2).bind fun x6 =>
    (gI M 4 x6 0).bind fun x8 =>
    f_Lv_entries_L4 κ a0 n (zadd v1 x8) (zadd v2 1) M
def f_Lv_entries (a0 : Nat) (M : zHp) : Option (Int × zHp) :=
  if zk M a0 = 5 then
    f_Lv_entries_L4 (fun v10 M11 =>
      some (v10, M11)) a0 zfu 0 0 M
  else none
def f_Lv_begin_L15 (κ : zHp → Option (zHp)) (a0 : Nat) (a3 : Int) : Nat → zHp → Option (zHp)
  | 0, _ => none
  | n + 1, M =>
    (gI M 5 a0 1).bind fun x7 =>
    (gI M 5 a0 3).bind fun x9 =>
    if zle x9 x7 then
      κ M
    else
    (gR M 5 a0 0).bind fun x12 =>
    (gI M 5 a0 1).bind fun x14 =>
    (ldR M 23 x12 x14).bind fun x16 =>
    (gR M 4 x16 0).bind fun x18 =>
    (gR M 5 a0 0).bind fun x20 =>
    (gI M 5 a0 1).bind fun x22 =>
    (ldR M 23 x20 x22).bind fun x24 =>
    (gI M 4 x24 0).bind fun x26 =>
    (ldR M 22 x18 (zsub x26 1)).bind fun x28 =>
    (gI M 1 x28 0).bind fun x30 =>
    if zle a3 x30 then
      κ M
    else
    (gI M 5 a0 1).bind fun x33 =>
    (pI M 5 a0 1 (zadd x33 1)).bind fun M35 =>
    f_Lv_begin_L15 κ a0 a3 n M35
def f_Lv_begin (a0 : Nat) (a1 : Int) (a2 : Int) (a3 : Int) (M : zHp) : Option (zHp) :=
  if zk M a0 = 5 then
    (pI M 5 a0 1 a1).bind fun M1 =>
    (pI M1 5 a0 3 a2).bind fun M3 =>
    (pI M3 5 a0 2 0).bind fun M5 =>
    f_Lv_begin_L15 (fun M37 =>
      (gI M37 5 a0 1).bind fun x38 =>
      (gI M37 5 a0 3).bind fun x40 =>
      if zle x40 x38 then
        some M37
      else
      (gR M37 5 a0 0).bind fun x43 =>
      (gI M37 5 a0 1).bind fun x45 =>
      (ldR M37 23 x43 x45).bind fun x47 =>
      zb2 (f_Tb_place x47 a3 2147483647 M37) fun x51 M50 =>
      (pI M50 5 a0 2 x51).bind fun M52 =>
      some M52) a0 a3 zfu M5
  else none
def f_Lv_look (a0 : Nat) (M : zHp) : Option (Nat × zHp) :=
  if zk M a0 = 5 then
    (gI M 5 a0 1).bind fun x1 =>
    (gI M 5 a0 3).bind fun x3 =>
    if zle x3 x1 then
      some (0, M)
    else
    (gR M 5 a0 0).bind fun x6 =>
    (gI M 5 a0 1).bind fun x8 =>
    (ldR M 23 x6 x8).bind fun x10 =>
    (gR M 4 x10 0).bind fun x12 =>
    (gI M 5 a0 2).bind fun x14 =>
    (ldR M 22 x12 x14).bind fun x16 =>
    some (x16, M)
  else none
def f_Lv_step (a0 : Nat) (M : zHp) : Option (zHp) :=
  if zk M a0 = 5 then
    (gI M 5 a0 2).bind fun x1 =>
    (pI M 5 a0 2 (zadd x1 1)).bind fun M3 =>
    (gI M3 5 a0 2).bind fun x5 =>
    (gR M3 5 a0 0).bind fun x7 =>
    (gI M3 5 a0 1).bind fun x9 =>
    (ldR M3 23 x7 x9).bind fun x11 =>
    (gI M3 4 x11 0).bind fun x13 =>
    if zeq x5 x13 then
      (pI M3 5 a0 2 0).bind fun M16 =>
      (gI M16 5 a0 1).bind fun x18 =>
      (pI M16 5 a0 1 (zadd x18 1)).bind fun M20 =>
      some M20
    else
    some M3
  else none
def f_Sg_init (a0 : Nat) (M : zHp) : Option (zHp) :=
  some M
def f_Sg_begin (a0 : Nat) (a1 : Nat) (a2 : Int) (M : zHp) : Option (zHp) :=
  if zk M a0 = 6 then
    (pR M 6 a0 0 a1).bind fun M1 =>
    if a1 = 0 then
      (pI M1 6 a0 0 0).bind fun M9 =>
      some M9
    else
    zb2 (f_Tb_place a1 a2 2147483647 M1) fun x6 M5 =>
    (pI M5 6 a0 0 x6).bind fun M7 =>
    some M7
  else none
def f_Sg_look (a0 : Nat) (M : zHp) : Option (Nat × zHp) :=
  if zk M a0 = 6 then
    (gR M 6 a0 0).bind fun x1 =>
    if x1 = 0 then
      some (0, M)
    else
    (gI M 6 a0 0).bind fun x4 =>
    (gR M 6 a0 0).bind fun x6 =>
    (gI M 4 x6 0).bind fun x8 =>
    if zle x8 x4 then
      some (0, M)
    else
    (gR M 6 a0 0).bind fun x11 =>
    (gR M 4 x11 0).bind fun x13 =>
    (gI M 6 a0 0).bind fun x15 =>
    (ldR M 22 x13 x15).bind fun x17 =>
    some (x17, M)
  else none
def f_Sg_step (a0 : Nat) (M : zHp) : Option (zHp) :=
  if zk M a0 = 6 then
    (gI M 6 a0 0).bind fun x1 =>
    (pI M 6 a0 0 (zadd x1 1)).bind fun M3 =>
    some M3
  else none
def fi3_look (a : Nat) (M : zHp) : Option (Nat × zHp) :=
  if zk M a = 3 then f_Mt_look a M else
  if zk M a = 5 then f_Lv_look a M else
  if zk M a = 6 then f_Sg_look a M else
  none
def fi3_step (a : Nat) (M : zHp) : Option (zHp) :=
  if zk M a = 3 then f_Mt_step a M else
  if zk M a = 5 then f_Lv_step a M else
  if zk M a = 6 then f_Sg_step a M else
  none
def f_Mg_init (a0 : Nat) (M : zHp) : Option (zHp) :=
  zb2 (znaR M 26 8 8) fun x1 M3 =>
  (pR M3 7 a0 0 x1).bind fun M4 =>
  some M4
def f_Mg_add (a0 : Nat) (a1 : Nat) (M : zHp) : Option (zHp) :=
  if zk M a0 = 7 then
    (gR M 7 a0 0).bind fun x1 =>
    (gI M 7 a0 0).bind fun x3 =>
    (stR M 26 x1 x3 a1).bind fun M5 =>
    (gI M5 7 a0 0).bind fun x7 =>
    (pI M5 7 a0 0 (zadd x7 1)).bind fun M9 =>
    some M9
  else none
def f_Mg_least_L4 (κ : Nat → zHp → Option (Nat × zHp)) (a0 : Nat) : Nat → Nat → Int → zHp → Option (Nat × zHp)
  | 0, _, _, _ => none
  | n + 1, v1, v2, M =>
    (gI M 7 a0 0).bind fun x1 =>
    if zle x1 v2 then
      κ v1 M
    else
    (gR M 7 a0 0).bind fun x4 =>
    (ldR M 26 x4 v2).bind fun x6 =>
    zb2 (fi3_look x6 M) fun x10 M9 =>
    if x10 = 0 then
      f_Mg_least_L4 κ a0 n v1 (zadd v2 1) M9
    else
    if v1 = 0 then
      (gR M9 7 a0 0).bind fun x13 =>
      (ldR M9 26 x13 v2).bind fun x15 =>
      f_Mg_least_L4 κ a0 n x15 (zadd v2 1) M9
    else
    zb2 (fi3_look v1 M9) fun x19 M18 =>
    (gI M18 1 x19 0).bind fun x20 =>
    zb2 (fi3_look v1 M18) fun x24 M23 =>
    (gI M23 1 x24 1).bind fun x25 =>
    zb2 (f_E_before x10 x20 x25 M23) fun x29 M28 =>
    if zeq x29 0 then
      f_Mg_least_L4 κ a0 n v1 (zadd v2 1) M28
    else
    (gR M28 7 a0 0).bind fun x31 =>
    (ldR M28 26 x31 v2).bind fun x33 =>
    f_Mg_least_L4 κ a0 n x33 (zadd v2 1) M28
def f_Mg_least (a0 : Nat) (M : zHp) : Option (Nat × zHp) :=
  if zk M a0 = 7 then
    f_Mg_least_L4 (fun v35 M36 =>
      some (v35, M36)) a0 zfu 0 0 M
  else none
def f_Mg_look (a0 : Nat) (M : zHp) : Option (Nat × zHp) :=
  if zk M a0 = 7 then
    zb2 (f_Mg_least a0 M) fun x3 M2 =>
    if x3 = 0 then
      some (0, M2)
    else
    zb2 (fi3_look x3 M2) fun x7 M6 =>
    some (x7, M6)
  else none
def f_Mg_step (a0 : Nat) (M : zHp) : Option (zHp) :=
  if zk M a0 = 7 then
    zb2 (f_Mg_least a0 M) fun x3 M2 =>
    (fi3_step x3 M2).bind fun M5 =>
    some M5
  else none
def fi4_look (a : Nat) (M : zHp) : Option (Nat × zHp) :=
  if zk M a = 3 then f_Mt_look a M else
  if zk M a = 5 then f_Lv_look a M else
  if zk M a = 6 then f_Sg_look a M else
  if zk M a = 7 then f_Mg_look a M else
  none
def fi4_step (a : Nat) (M : zHp) : Option (zHp) :=
  if zk M a = 3 then f_Mt_step a M else
  if zk M a = 5 then f_Lv_step a M else
  if zk M a = 6 then f_Sg_step a M else
  if zk M a = 7 then f_Mg_step a M else
  none
def zf_V_init_L170 : Nat := 5
def f_V_init_L170 (κ : zHp → Option (zHp)) (a0 : Nat) : Nat → Int → zHp → Option (zHp)
  | 0, _, _ => none
  | n + 1, v1, M =>
    if zle 4 v1 then
      κ M
    else
    (gR M 0 a0 10).bind fun x106 =>
    zb2 (znew M 6) fun x108 M111 =>
    (f_Sg_init x108 M111).bind fun M113 =>
    (stR M113 25 x106 v1 x108).bind fun M114 =>
    f_V_init_L170 κ a0 n (zadd v1 1) M114
def f_V_init_L196 (κ : zHp → Option (zHp)) (a0 : Nat) : Nat → Int → zHp → Option (zHp)
  | 0, _, _ => none
  | n + 1, v1, M =>
    if zle 3 v1 then
      κ M
    else
    (gR M 0 a0 7).bind fun x118 =>
    (stI M 20 x118 v1 (-1)).bind fun M120 =>
    f_V_init_L196 κ a0 n (zadd v1 1) M120
def f_V_init (a0 : Nat) (M : zHp) : Option (zHp) :=
  zb2 (znew M 2) fun x1 M4 =>
  (f_S_init x1 M4).bind fun M6 =>
  (pR M6 0 a0 0 x1).bind fun M7 =>
  (gR M7 0 a0 0).bind fun x9 =>
  (pR M7 0 a0 1 x9).bind fun M11 =>
  (pI M11 0 a0 0 1).bind fun M13 =>
  (gR M13 0 a0 0).bind fun x15 =>
  (pR M13 0 a0 3 x15).bind fun M17 =>
  zb2 (znaI M17 20 6 6) fun x19 M21 =>
  (pR M21 0 a0 4 x19).bind fun M22 =>
  zb2 (znaI M22 20 6 6) fun x24 M26 =>
  (pR M26 0 a0 5 x24).bind fun M27 =>
  zb2 (znaI M27 20 6 6) fun x29 M31 =>
  (pR M31 0 a0 6 x29).bind fun M32 =>
  zb2 (znaI M32 20 3 3) fun x34 M36 =>
  (pR M36 0 a0 7 x34).bind fun M37 =>
  zb2 (znew M37 3) fun x39 M42 =>
  (f_Mt_init x39 M42).bind fun M44 =>
  (pR M44 0 a0 8 x39).bind fun M45 =>
  zb2 (znaR M45 24 3 3) fun x47 M49 =>
  (pR M49 0 a0 9 x47).bind fun M50 =>
  zb2 (znaR M50 25 4 4) fun x52 M54 =>
  (pR M54 0 a0 10 x52).bind fun M55 =>
  zb2 (znew M55 7) fun x57 M60 =>
  (f_Mg_init x57 M60).bind fun M62 =>
  (pR M62 0 a0 11 x57).bind fun M63 =>
  zb2 (znaR M63 22 180 180) fun x65 M67 =>
  (pR M67 0 a0 14 x65).bind fun M68 =>
  zb2 (znaI M68 21 180 180) fun x70 M72 =>
  (pR M72 0 a0 15 x70).bind fun M73 =>
  (gR M73 0 a0 9).bind fun x75 =>
  zb2 (znew M73 5) fun x77 M80 =>
  (f_Lv_init x77 4 M80).bind fun M82 =>
  (stR M82 24 x75 0 x77).bind fun M83 =>
  (gR M83 0 a0 9).bind fun x85 =>
  zb2 (znew M83 5) fun x87 M90 =>
  (f_Lv_init x87 8 M90).bind fun M92 =>
  (stR M92 24 x85 1 x87).bind fun M93 =>
  (gR M93 0 a0 9).bind fun x95 =>
  zb2 (znew M93 5) fun x97 M100 =>
  (f_Lv_init x97 30 M100).bind fun M102 =>
  (stR M102 24 x95 2 x97).bind fun M103 =>
  f_V_init_L170 (fun M116 =>
    f_V_init_L196 (fun M122 =>
      some M122) a0 zfu 0 M116) a0 zf_V_init_L170 0 M103
def f_V_room (a0 : Nat) (a1 : Int) (M : zHp) : Option (Nat × zHp) :=
  if zk M a0 = 0 then
    (gR M 0 a0 1).bind fun x1 =>
    (gI M 2 x1 1).bind fun x3 =>
    if zlt 16 (zadd x3 a1) then
      (gR M 0 a0 2).bind fun x6 =>
      if x6 = 0 then
        zb2 (znew M 2) fun x29 M32 =>
        (f_S_init x29 M32).bind fun M34 =>
        (gR M34 0 a0 1).bind fun x35 =>
        (gI M34 2 x35 0).bind fun x37 =>
        (f_S_begin x29 (zadd x37 1) M34).bind fun M40 =>
        (gR M40 0 a0 1).bind fun x41 =>
        (pR M40 2 x41 3 x29).bind fun M43 =>
        (pR M43 0 a0 1 x29).bind fun M45 =>
        (gI M45 0 a0 0).bind fun x47 =>
        (pI M45 0 a0 0 (zadd x47 1)).bind fun M49 =>
        some (x29, M49)
      else
      (gR M 2 x6 3).bind fun x9 =>
      (pR M 0 a0 2 x9).bind fun M11 =>
      (gR M11 0 a0 1).bind fun x13 =>
      (gI M11 2 x13 0).bind fun x15 =>
      (f_S_begin x6 (zadd x15 1) M11).bind fun M18 =>
      (gR M18 0 a0 1).bind fun x19 =>
      (pR M18 2 x19 3 x6).bind fun M21 =>
      (pR M21 0 a0 1 x6).bind fun M23 =>
      (gI M23 0 a0 0).bind fun x25 =>
      (pI M23 0 a0 0 (zadd x25 1)).bind fun M27 =>
      some (x6, M27)
    else
    (gR M 0 a0 1).bind fun x51 =>
    some (x51, M)
  else none
def f_V_free (a0 : Nat) (a1 : Nat) (M : zHp) : Option (zHp) :=
  if zk M a0 = 0 then
    (gR M 0 a0 2).bind fun x1 =>
    (pR M 2 a1 3 x1).bind fun M3 =>
    (pR M3 0 a0 2 a1).bind fun M5 =>
    (gI M5 0 a0 0).bind fun x7 =>
    (pI M5 0 a0 0 (zsub x7 1)).bind fun M9 =>
    some M9
  else none
def f_V_syncAll (a0 : Nat) (M : zHp) : Option (zHp) :=
  if zk M a0 = 0 then
    (gR M 0 a0 1).bind fun x1 =>
    (pR M 0 a0 3 x1).bind fun M3 =>
    (gR M3 0 a0 1).bind fun x5 =>
    (gI M3 2 x5 1).bind fun x7 =>
    (pI M3 0 a0 1 x7).bind fun M9 =>
    (gI M9 0 a0 6).bind fun x11 =>
    (pI M9 0 a0 2 x11).bind fun M13 =>
    (pI M13 0 a0 3 0).bind fun M15 =>
    some M15
  else none
def f_V_sync (a0 : Nat) (M : zHp) : Option (Int × zHp) :=
  if zk M a0 = 0 then
    (gI M 0 a0 3).bind fun x1 =>
    (f_V_syncAll a0 M).bind fun M4 =>
    some (x1, M4)
  else none
def f_V_isKey (a0 : Int) (M : zHp) : Option (Int × zHp) :=
  if zlt a0 0 then
    some (0, M)
  else
  if zle 32 a0 then
    some (0, M)
  else
  some (1, M)
def f_V_ready (a0 : Nat) (a1 : Int) (a2 : Int) (a3 : Int) (M : zHp) : Option (Int × zHp) :=
  if zk M a0 = 0 then
    (gI M 0 a0 7).bind fun x1 =>
    if zeq x1 6 then
      some ((-3), M)
    else
    (gR M 0 a0 4).bind fun x4 =>
    (gI M 0 a0 7).bind fun x6 =>
    (stI M 20 x4 x6 a1).bind fun M8 =>
    (gR M8 0 a0 5).bind fun x10 =>
    (gI M8 0 a0 7).bind fun x12 =>
    (stI M8 20 x10 x12 a2).bind fun M14 =>
    (gR M14 0 a0 6).bind fun x16 =>
    (gI M14 0 a0 7).bind fun x18 =>
    (stI M14 20 x16 x18 a3).bind fun M20 =>
    (gI M20 0 a0 7).bind fun x22 =>
    (pI M20 0 a0 7 (zadd x22 1)).bind fun M24 =>
    (gI M24 0 a0 7).bind fun x26 =>
    some (x26, M24)
  else none
def f_V_put (a0 : Nat) (a1 : Int) (a2 : Int) (a3 : Int) (M : zHp) : Option (Int × zHp) :=
  if zk M a0 = 0 then
    zb2 (f_V_isKey a1 M) fun x3 M2 =>
    if zeq x3 0 then
      some ((-1), M2)
    else
    if zlt a3 0 then
      some ((-1), M2)
    else
    if zle a3 1000 then
      zb2 (f_V_ready a0 a1 a2 a3 M2) fun x9 M8 =>
      some (x9, M8)
    else
    some ((-1), M2)
  else none
def f_V_delete (a0 : Nat) (a1 : Int) (M : zHp) : Option (Int × zHp) :=
  if zk M a0 = 0 then
    zb2 (f_V_isKey a1 M) fun x3 M2 =>
    if zeq x3 0 then
      some ((-1), M2)
    else
    zb2 (f_V_ready a0 a1 0 (-1) M2) fun x7 M6 =>
    some (x7, M6)
  else none
def f_V_code (a0 : Int) (a1 : Int) (M : zHp) : Option (Int × zHp) :=
  if zeq a1 0 then
    some (a0, M)
  else
  some ((zadd a0 32), M)
def f_V_join_L33 (κ : zHp → Option (zHp)) (a0 : Nat) (a2 : Int) (a3 : Nat) : Nat → Int → zHp → Option (zHp)
  | 0, _, _ => none
  | n + 1, v4, M =>
    (gI M 5 a3 0).bind fun x6 =>
    if zle x6 v4 then
      κ M
    else
    (gR M 0 a0 10).bind fun x9 =>
    (ldR M 25 x9 v4).bind fun x11 =>
    (gR M 5 a3 0).bind fun x13 =>
    (ldR M 23 x13 v4).bind fun x15 =>
    (f_Sg_begin x11 x15 a2 M).bind fun M18 =>
    (gR M18 0 a0 11).bind fun x19 =>
    (gR M18 0 a0 10).bind fun x21 =>
    (ldR M18 25 x21 v4).bind fun x23 =>
    (f_Mg_add x19 x23 M18).bind fun M26 =>
    f_V_join_L33 κ a0 a2 a3 n (zadd v4 1) M26
def f_V_join (a0 : Nat) (a1 : Int) (a2 : Int) (M : zHp) : Option (zHp) :=
  if zk M a0 = 0 then
    (gR M 0 a0 9).bind fun x1 =>
    (ldR M 24 x1 a1).bind fun x3 =>
    if zle a1 0 then
      f_V_join_L33 (fun M27 =>
        some M27) a0 a2 x3 zfu 0 M
    else
    (gI M 5 x3 0).bind fun x28 =>
    (f_Lv_begin x3 0 x28 a2 M).bind fun M31 =>
    (gR M31 0 a0 11).bind fun x32 =>
    (f_Mg_add x32 x3 M31).bind fun M35 =>
    some M35
  else none
def f_V_gather_L12 (κ : zHp → Option (zHp)) (a0 : Nat) (a1 : Nat) : Nat → Nat → zHp → Option (zHp)
  | 0, _, _ => none
  | n + 1, v2, M =>
    if v2 = 0 then
      κ M
    else
    (gR M 0 a0 14).bind fun x7 =>
    (gI M 0 a0 9).bind fun x9 =>
    (stR M 22 x7 x9 v2).bind fun M11 =>
    (gI M11 0 a0 9).bind fun x13 =>
    (pI M11 0 a0 9 (zadd x13 1)).bind fun M15 =>
    (fi4_step a1 M15).bind fun M18 =>
    zb2 (fi4_look a1 M18) fun x21 M20 =>
    f_V_gather_L12 κ a0 a1 n x21 M20
def f_V_gather (a0 : Nat) (a1 : Nat) (M : zHp) : Option (zHp) :=
  if zk M a0 = 0 then
    (pI M 0 a0 9 0).bind fun M1 =>
    zb2 (fi4_look a1 M1) fun x5 M4 =>
    f_V_gather_L12 (fun M22 =>
      some M22) a0 a1 zfu x5 M4
  else none
def f_V_between_L16 (κ : Int → zHp → Option (Int × zHp)) (a1 : Int) (a2 : Int) (a4 : Nat) (a5 : Int) : Nat → Int → Int → zHp → Option (Int × zHp)
  | 0, _, _, _ => none
  | n + 1, v3, v6, M =>
    if zle a5 v6 then
      κ v3 M
    else
    (ldI M 20 a4 v6).bind fun x6 =>
    if zlt x6 a1 then
      f_V_between_L16 κ a1 a2 a4 a5 n (zor v3 0) (zadd v6 1) M
    else
    if zle a2 x6 then
      f_V_between_L16 κ a1 a2 a4 a5 n (zor v3 0) (zadd v6 1) M
    else
    f_V_between_L16 κ a1 a2 a4 a5 n (zor v3 1) (zadd v6 1) M
def f_V_between (a0 : Nat) (a1 : Int) (a2 : Int) (M : zHp) : Option (Int × zHp) :=
  if zk M a0 = 0 then
    (gR M 0 a0 7).bind fun x1 =>
    (zlen M x1).bind fun x3 =>
    f_V_between_L16 (fun v10 M11 =>
      if zbl v10 = true then some (v10, M11) else none) a1 a2 x1 x3 zfu 0 0 M
  else none
def f_V_sift_L4 (κ : zHp → Option (Int × zHp)) (a0 : Nat) : Nat → Int → zHp → Option (Int × zHp)
  | 0, _, _ => none
  | n + 1, v3, M =>
    (gI M 0 a0 9).bind fun x1 =>
    if zle x1 v3 then
      κ M
    else
    if zle v3 0 then
      (gR M 0 a0 15).bind fun x5 =>
      (stZ M 21 x5 v3 1).bind fun M8 =>
      f_V_sift_L4 κ a0 n (zadd v3 1) M8
    else
    (gR M 0 a0 14).bind fun x10 =>
    (ldR M 22 x10 (zsub v3 1)).bind fun x12 =>
    (gI M 1 x12 0).bind fun x14 =>
    (gR M 0 a0 14).bind fun x16 =>
    (ldR M 22 x16 v3).bind fun x18 =>
    (gI M 1 x18 0).bind fun x20 =>
    if zeq x14 x20 then
      (gR M 0 a0 14).bind fun x28 =>
      (ldR M 22 x28 v3).bind fun x30 =>
      (gI M 1 x30 1).bind fun x32 =>
      (gR M 0 a0 14).bind fun x34 =>
      (ldR M 22 x34 (zsub v3 1)).bind fun x36 =>
      (gI M 1 x36 1).bind fun x38 =>
      zb2 (f_V_between a0 x32 x38 M) fun x42 M41 =>
      if zeq x42 0 then
        (gR M41 0 a0 15).bind fun x49 =>
        (stZ M41 21 x49 v3 0).bind fun M52 =>
        f_V_sift_L4 κ a0 n (zadd v3 1) M52
      else
      (gR M41 0 a0 15).bind fun x44 =>
      (stZ M41 21 x44 v3 1).bind fun M47 =>
      f_V_sift_L4 κ a0 n (zadd v3 1) M47
    else
    (gR M 0 a0 15).bind fun x23 =>
    (stZ M 21 x23 v3 1).bind fun M26 =>
    f_V_sift_L4 κ a0 n (zadd v3 1) M26
def f_V_sift_L105 (κ : Int → zHp → Option (Int × zHp)) (a0 : Nat) (a1 : Int) : Nat → Int → Int → Int → zHp → Option (Int × zHp)
  | 0, _, _, _, _ => none
  | n + 1, v2, v3, v4, M =>
    if zlt v4 0 then
      κ v2 M
    else
    (gI M 0 a0 9).bind fun x58 =>
    if zle x58 (zadd v4 1) then
      if zeq a1 0 then
        (gR M 0 a0 15).bind fun x62 =>
        (ldI M 21 x62 v4).bind fun x64 =>
        (gR M 0 a0 15).bind fun x66 =>
        (ldI M 21 x66 v4).bind fun x68 =>
        if zeq x68 0 then
          f_V_sift_L105 κ a0 a1 n (zadd v2 1) (zor v3 x64) (zadd v4 (-1)) M
        else
        f_V_sift_L105 κ a0 a1 n (zadd v2 0) (zor v3 x64) (zadd v4 (-1)) M
      else
      (gR M 0 a0 15).bind fun x71 =>
      (ldI M 21 x71 v4).bind fun x73 =>
      if zeq x73 0 then
        (gR M 0 a0 15).bind fun x76 =>
        (ldI M 21 x76 v4).bind fun x78 =>
        (gR M 0 a0 15).bind fun x80 =>
        (ldI M 21 x80 v4).bind fun x82 =>
        if zeq x82 0 then
          f_V_sift_L105 κ a0 a1 n (zadd v2 1) (zor v3 x78) (zadd v4 (-1)) M
        else
        f_V_sift_L105 κ a0 a1 n (zadd v2 0) (zor v3 x78) (zadd v4 (-1)) M
      else
      if zeq v3 0 then
        (gR M 0 a0 14).bind fun x95 =>
        (ldR M 22 x95 v4).bind fun x97 =>
        (gI M 0 a0 5).bind fun x99 =>
        zb2 (f_E_gone x97 x99 M) fun x103 M102 =>
        if zeq x103 0 then
          (gR M102 0 a0 15).bind fun x105 =>
          (ldI M102 21 x105 v4).bind fun x107 =>
          (gR M102 0 a0 15).bind fun x109 =>
          (ldI M102 21 x109 v4).bind fun x111 =>
          if zeq x111 0 then
            f_V_sift_L105 κ a0 a1 n (zadd v2 1) (zor v3 x107) (zadd v4 (-1)) M102
          else
          f_V_sift_L105 κ a0 a1 n (zadd v2 0) (zor v3 x107) (zadd v4 (-1)) M102
        else
        (gR M102 0 a0 15).bind fun x114 =>
        (stZ M102 21 x114 v4 0).bind fun M116 =>
        (gR M116 0 a0 15).bind fun x118 =>
        (ldI M116 21 x118 v4).bind fun x120 =>
        (gR M116 0 a0 15).bind fun x122 =>
        (ldI M116 21 x122 v4).bind fun x124 =>
        if zeq x124 0 then
          f_V_sift_L105 κ a0 a1 n (zadd v2 1) (zor v3 x120) (zadd v4 (-1)) M116
        else
        f_V_sift_L105 κ a0 a1 n (zadd v2 0) (zor v3 x120) (zadd v4 (-1)) M116
      else
      (gR M 0 a0 15).bind fun x86 =>
      (ldI M 21 x86 v4).bind fun x88 =>
      (gR M 0 a0 15).bind fun x90 =>
      (ldI M 21 x90 v4).bind fun x92 =>
      if zeq x92 0 then
        f_V_sift_L105 κ a0 a1 n (zadd v2 1) (zor v3 x88) (zadd v4 (-1)) M
      else
      f_V_sift_L105 κ a0 a1 n (zadd v2 0) (zor v3 x88) (zadd v4 (-1)) M
    else
    (gR M 0 a0 14).bind fun x127 =>
    (ldR M 22 x127 (zadd v4 1)).bind fun x129 =>
    (gI M 1 x129 0).bind fun x131 =>
    (gR M 0 a0 14).bind fun x133 =>
    (ldR M 22 x133 v4).bind fun x135 =>
    (gI M 1 x135 0).bind fun x137 =>
    if zeq x131 x137 then
      if zeq a1 0 then
        (gR M 0 a0 15).bind fun x141 =>
        (ldI M 21 x141 v4).bind fun x143 =>
        (gR M 0 a0 15).bind fun x145 =>
        (ldI M 21 x145 v4).bind fun x147 =>
        if zeq x147 0 then
          f_V_sift_L105 κ a0 a1 n (zadd v2 1) (zor v3 x143) (zadd v4 (-1)) M
        else
        f_V_sift_L105 κ a0 a1 n (zadd v2 0) (zor v3 x143) (zadd v4 (-1)) M
      else
      (gR M 0 a0 15).bind fun x150 =>
      (ldI M 21 x150 v4).bind fun x152 =>
      if zeq x152 0 then
        (gR M 0 a0 15).bind fun x155 =>
        (ldI M 21 x155 v4).bind fun x157 =>
        (gR M 0 a0 15).bind fun x159 =>
        (ldI M 21 x159 v4).bind fun x161 =>
        if zeq x161 0 then
          f_V_sift_L105 κ a0 a1 n (zadd v2 1) (zor v3 x157) (zadd v4 (-1)) M
        else
        f_V_sift_L105 κ a0 a1 n (zadd v2 0) (zor v3 x157) (zadd v4 (-1)) M
      else
      if zeq v3 0 then
        (gR M 0 a0 14).bind fun x174 =>
        (ldR M 22 x174 v4).bind fun x176 =>
        (gI M 0 a0 5).bind fun x178 =>
        zb2 (f_E_gone x176 x178 M) fun x182 M181 =>
        if zeq x182 0 then
          (gR M181 0 a0 15).bind fun x184 =>
          (ldI M181 21 x184 v4).bind fun x186 =>
          (gR M181 0 a0 15).bind fun x188 =>
          (ldI M181 21 x188 v4).bind fun x190 =>
          if zeq x190 0 then
            f_V_sift_L105 κ a0 a1 n (zadd v2 1) (zor v3 x186) (zadd v4 (-1)) M181
          else
          f_V_sift_L105 κ a0 a1 n (zadd v2 0) (zor v3 x186) (zadd v4 (-1)) M181
        else
        (gR M181 0 a0 15).bind fun x193 =>
        (stZ M181 21 x193 v4 0).bind fun M195 =>
        (gR M195 0 a0 15).bind fun x197 =>
        (ldI M195 21 x197 v4).bind fun x199 =>
        (gR M195 0 a0 15).bind fun x201 =>
        (ldI M195 21 x201 v4).bind fun x203 =>
        if zeq x203 0 then
          f_V_sift_L105 κ a0 a1 n (zadd v2 1) (zor v3 x199) (zadd v4 (-1)) M195
        else
        f_V_sift_L105 κ a0 a1 n (zadd v2 0) (zor v3 x199) (zadd v4 (-1)) M195
      else
      (gR M 0 a0 15).bind fun x165 =>
      (ldI M 21 x165 v4).bind fun x167 =>
      (gR M 0 a0 15).bind fun x169 =>
      (ldI M 21 x169 v4).bind fun x171 =>
      if zeq x171 0 then
        f_V_sift_L105 κ a0 a1 n (zadd v2 1) (zor v3 x167) (zadd v4 (-1)) M
      else
      f_V_sift_L105 κ a0 a1 n (zadd v2 0) (zor v3 x167) (zadd v4 (-1)) M
    else
    if zeq a1 0 then
      (gR M 0 a0 15).bind fun x207 =>
      (ldI M 21 x207 v4).bind fun x209 =>
      (gR M 0 a0 15).bind fun x211 =>
      (ldI M 21 x211 v4).bind fun x213 =>
      if zeq x213 0 then
        f_V_sift_L105 κ a0 a1 n (zadd v2 1) (zor 0 x209) (zadd v4 (-1)) M
      else
      f_V_sift_L105 κ a0 a1 n (zadd v2 0) (zor 0 x209) (zadd v4 (-1)) M
    else
    (gR M 0 a0 15).bind fun x216 =>
    (ldI M 21 x216 v4).bind fun x218 =>
    if zeq x218 0 then
      (gR M 0 a0 15).bind fun x221 =>
      (ldI M 21 x221 v4).bind fun x223 =>
      (gR M 0 a0 15).bind fun x225 =>
      (ldI M 21 x225 v4).bind fun x227 =>
      if zeq x227 0 then
        f_V_sift_L105 κ a0 a1 n (zadd v2 1) (zor 0 x223) (zadd v4 (-1)) M
      else
      f_V_sift_L105 κ a0 a1 n (zadd v2 0) (zor 0 x223) (zadd v4 (-1)) M
    else
    (gR M 0 a0 14).bind fun x231 =>
    (ldR M 22 x231 v4).bind fun x233 =>
    (gI M 0 a0 5).bind fun x235 =>
    zb2 (f_E_gone x233 x235 M) fun x239 M238 =>
    if zeq x239 0 then
      (gR M238 0 a0 15).bind fun x241 =>
      (ldI M238 21 x241 v4).bind fun x243 =>
      (gR M238 0 a0 15).bind fun x245 =>
      (ldI M238 21 x245 v4).bind fun x247 =>
      if zeq x247 0 then
        f_V_sift_L105 κ a0 a1 n (zadd v2 1) (zor 0 x243) (zadd v4 (-1)) M238
      else
      f_V_sift_L105 κ a0 a1 n (zadd v2 0) (zor 0 x243) (zadd v4 (-1)) M238
    else
    (gR M238 0 a0 15).bind fun x250 =>
    (stZ M238 21 x250 v4 0).bind fun M252 =>
    (gR M252 0 a0 15).bind fun x254 =>
    (ldI M252 21 x254 v4).bind fun x256 =>
    (gR M252 0 a0 15).bind fun x258 =>
    (ldI M252 21 x258 v4).bind fun x260 =>
    if zeq x260 0 then
      f_V_sift_L105 κ a0 a1 n (zadd v2 1) (zor 0 x256) (zadd v4 (-1)) M252
    else
    f_V_sift_L105 κ a0 a1 n (zadd v2 0) (zor 0 x256) (zadd v4 (-1)) M252
def f_V_sift (a0 : Nat) (a1 : Int) (M : zHp) : Option (Int × zHp) :=
  if zk M a0 = 0 then
    f_V_sift_L4 (fun M54 =>
      (gI M54 0 a0 9).bind fun x55 =>
      f_V_sift_L105 (fun v263 M264 =>
        some (v263, M264)) a0 a1 zfu 0 0 (zsub x55 1) M54) a0 zfu 0 M
  else none
def f_V_clear_L2 (κ : zHp → Option (zHp)) (a0 : Nat) (a1 : Nat) : Nat → Int → zHp → Option (zHp)
  | 0, _, _ => none
  | n + 1, v2, M =>
    (gI M 5 a1 0).bind fun x1 =>
    if zle x1 v2 then
      κ M
    else
    (gR M 5 a1 0).bind fun x4 =>
    (ldR M 23 x4 v2).bind fun x6 =>
    (gR M 0 a0 12).bind fun x8 =>
    (pR M 4 x6 1 x8).bind fun M10 =>
    (gR M10 5 a1 0).bind fun x12 =>
    (ldR M10 23 x12 v2).bind fun x14 =>
    (pR M10 0 a0 12 x14).bind fun M16 =>
    f_V_clear_L2 κ a0 a1 n (zadd v2 1) M16
def f_V_clear (a0 : Nat) (a1 : Nat) (M : zHp) : Option (zHp) :=
  if zk M a0 = 0 then
    f_V_clear_L2 (fun M18 =>
      (pI M18 5 a1 0 0).bind fun M19 =>
      some M19) a0 a1 zfu 0 M
  else none
def f_V_drop (a0 : Nat) (a1 : Nat) (M : zHp) : Option (zHp) :=
  if zk M a0 = 0 then
    (f_E_leave a1 M).bind fun M2 =>
    (gR M2 1 a1 1).bind fun x3 =>
    (gR M2 0 a0 13).bind fun x5 =>
    (stR M2 22 x3 0 x5).bind fun M7 =>
    (pR M7 0 a0 13 a1).bind fun M9 =>
    some M9
  else none
def f_V_newTable (a0 : Nat) (M : zHp) : Option (Nat × zHp) :=
  if zk M a0 = 0 then
    (gR M 0 a0 12).bind fun x1 =>
    if x1 = 0 then
      zb2 (znew M 4) fun x14 M17 =>
      (f_Tb_init x14 M17).bind fun M19 =>
      (pI M19 4 x14 0 0).bind fun M20 =>
      (pI M20 4 x14 1 0).bind fun M22 =>
      (pR M22 4 x14 1 0).bind fun M24 =>
      some (x14, M24)
    else
    (gR M 4 x1 1).bind fun x4 =>
    (pR M 0 a0 12 x4).bind fun M6 =>
    (pI M6 4 x1 0 0).bind fun M8 =>
    (pI M8 4 x1 1 0).bind fun M10 =>
    (pR M10 4 x1 1 0).bind fun M12 =>
    some (x1, M12)
  else none
def zf_V_lay_L4 : Nat := 181
def f_V_lay_L4 (κ : zHp → Option (zHp)) (a0 : Nat) (a1 : Nat) : Nat → Nat → Int → zHp → Option (zHp)
  | 0, _, _, _ => none
  | n + 1, v2, v3, M =>
    (gI M 0 a0 9).bind fun x1 =>
    if zle x1 v3 then
      κ M
    else
    (gR M 0 a0 15).bind fun x4 =>
    (ldI M 21 x4 v3).bind fun x6 =>
    if zeq x6 0 then
      (gR M 0 a0 14).bind fun x57 =>
      (ldR M 22 x57 v3).bind fun x59 =>
      (f_V_drop a0 x59 M).bind fun M62 =>
      f_V_lay_L4 κ a0 a1 n v2 (zadd v3 1) M62
    else
    if v2 = 0 then
      zb2 (f_V_newTable a0 M) fun x12 M11 =>
      (gR M11 5 a1 0).bind fun x13 =>
      (gI M11 5 a1 0).bind fun x15 =>
      (stR M11 23 x13 x15 x12).bind fun M17 =>
      (gI M17 5 a1 0).bind fun x19 =>
      (pI M17 5 a1 0 (zadd x19 1)).bind fun M21 =>
      (gR M21 0 a0 14).bind fun x23 =>
      (ldR M21 22 x23 v3).bind fun x25 =>
      (f_Tb_add x12 x25 M21).bind fun M28 =>
      f_V_lay_L4 κ a0 a1 n x12 (zadd v3 1) M28
    else
    (gI M 4 v2 0).bind fun x29 =>
    if zeq x29 6 then
      zb2 (f_V_newTable a0 M) fun x40 M39 =>
      (gR M39 5 a1 0).bind fun x41 =>
      (gI M39 5 a1 0).bind fun x43 =>
      (stR M39 23 x41 x43 x40).bind fun M45 =>
      (gI M45 5 a1 0).bind fun x47 =>
      (pI M45 5 a1 0 (zadd x47 1)).bind fun M49 =>
      (gR M49 0 a0 14).bind fun x51 =>
      (ldR M49 22 x51 v3).bind fun x53 =>
      (f_Tb_add x40 x53 M49).bind fun M56 =>
      f_V_lay_L4 κ a0 a1 n x40 (zadd v3 1) M56
    else
    (gR M 0 a0 14).bind fun x32 =>
    (ldR M 22 x32 v3).bind fun x34 =>
    (f_Tb_add v2 x34 M).bind fun M37 =>
    f_V_lay_L4 κ a0 a1 n v2 (zadd v3 1) M37
def f_V_lay (a0 : Nat) (a1 : Nat) (M : zHp) : Option (zHp) :=
  if zk M a0 = 0 then
    f_V_lay_L4 (fun M63 =>
      some M63) a0 a1 zf_V_lay_L4 0 0 M
  else none
def f_V_mergeDown (a0 : Nat) (a1 : Int) (M : zHp) : Option (Int × zHp) :=
  if zk M a0 = 0 then
    (gR M 0 a0 11).bind fun x1 =>
    (pI M 7 x1 0 0).bind fun M3 =>
    (f_V_join a0 a1 0 M3).bind fun M6 =>
    (f_V_join a0 (zadd a1 1) 0 M6).bind fun M8 =>
    (gR M8 0 a0 11).bind fun x9 =>
    (f_V_gather a0 x9 M8).bind fun M12 =>
    if zeq a1 1 then
      zb2 (f_V_sift a0 1 M12) fun x37 M36 =>
      (gR M36 0 a0 9).bind fun x38 =>
      (ldR M36 24 x38 a1).bind fun x40 =>
      (f_V_clear a0 x40 M36).bind fun M43 =>
      (gR M43 0 a0 9).bind fun x44 =>
      (ldR M43 24 x44 (zadd a1 1)).bind fun x46 =>
      (f_V_clear a0 x46 M43).bind fun M49 =>
      (gR M49 0 a0 9).bind fun x50 =>
      (ldR M49 24 x50 (zadd a1 1)).bind fun x52 =>
      (f_V_lay a0 x52 M49).bind fun M55 =>
      some (x37, M55)
    else
    zb2 (f_V_sift a0 0 M12) fun x16 M15 =>
    (gR M15 0 a0 9).bind fun x17 =>
    (ldR M15 24 x17 a1).bind fun x19 =>
    (f_V_clear a0 x19 M15).bind fun M22 =>
    (gR M22 0 a0 9).bind fun x23 =>
    (ldR M22 24 x23 (zadd a1 1)).bind fun x25 =>
    (f_V_clear a0 x25 M22).bind fun M28 =>
    (gR M28 0 a0 9).bind fun x29 =>
    (ldR M28 24 x29 (zadd a1 1)).bind fun x31 =>
    (f_V_lay a0 x31 M28).bind fun M34 =>
    some (x16, M34)
  else none
def f_V_mergeFrom (a0 : Nat) (a1 : Int) (M : zHp) : Option (Int × zHp) :=
  if zk M a0 = 0 then
    zb2 (f_V_mergeDown a0 a1 M) fun x3 M2 =>
    if zeq a1 0 then
      (gR M2 0 a0 9).bind fun x5 =>
      (ldR M2 24 x5 1).bind fun x7 =>
      zb2 (f_Lv_entries x7 M2) fun x11 M10 =>
      if zle x11 12 then
        some (x3, M10)
      else
      zb2 (f_V_mergeDown a0 1 M10) fun x15 M14 =>
      some ((zadd x3 x15), M14)
    else
    some (x3, M2)
  else none
def f_V_flush_L66 (κ : zHp → Option (Int × zHp)) (a0 : Nat) (a4 : Nat) : Nat → Int → zHp → Option (Int × zHp)
  | 0, _, _ => none
  | n + 1, v5, M =>
    (gI M 0 a0 9).bind fun x27 =>
    if zle x27 v5 then
      κ M
    else
    (gR M 0 a0 15).bind fun x30 =>
    (ldI M 21 x30 v5).bind fun x32 =>
    if zeq x32 0 then
      (gR M 0 a0 14).bind fun x35 =>
      (ldR M 22 x35 v5).bind fun x37 =>
      (f_V_drop a0 x37 M).bind fun M40 =>
      f_V_flush_L66 κ a0 a4 n (zadd v5 1) M40
    else
    (gR M 0 a0 14).bind fun x41 =>
    (ldR M 22 x41 v5).bind fun x43 =>
    (f_Tb_add a4 x43 M).bind fun M46 =>
    f_V_flush_L66 κ a0 a4 n (zadd v5 1) M46
def f_V_flush_L123 (κ : zHp → Option (Int × zHp)) (a2 : Nat) : Nat → Int → zHp → Option (Int × zHp)
  | 0, _, _ => none
  | n + 1, v5, M =>
    if zle v5 0 then
      κ M
    else
    (gR M 5 a2 0).bind fun x51 =>
    (gR M 5 a2 0).bind fun x53 =>
    (ldR M 23 x53 (zsub v5 1)).bind fun x55 =>
    (stR M 23 x51 v5 x55).bind fun M57 =>
    f_V_flush_L123 κ a2 n (zadd v5 (-1)) M57
def f_V_flush (a0 : Nat) (M : zHp) : Option (Int × zHp) :=
  if zk M a0 = 0 then
    (gR M 0 a0 8).bind fun x1 =>
    (gI M 3 x1 0).bind fun x3 =>
    if zeq x3 0 then
      some (0, M)
    else
    (gR M 0 a0 9).bind fun x6 =>
    (ldR M 24 x6 0).bind fun x8 =>
    (gI M 5 x8 0).bind fun x10 =>
    if zeq x10 4 then
      zb2 (f_V_mergeFrom a0 0 M) fun x82 M81 =>
      (gR M81 0 a0 8).bind fun x83 =>
      (f_Mt_begin x83 0 M81).bind fun M86 =>
      (gR M86 0 a0 8).bind fun x87 =>
      (f_V_gather a0 x87 M86).bind fun M90 =>
      zb2 (f_V_sift a0 0 M90) fun x93 M92 =>
      zb2 (f_V_newTable a0 M92) fun x96 M95 =>
      f_V_flush_L66 (fun M97 =>
        (gI M97 5 x8 0).bind fun x98 =>
        f_V_flush_L123 (fun M100 =>
          (gR M100 5 x8 0).bind fun x101 =>
          (stR M100 23 x101 0 x96).bind fun M103 =>
          (gI M103 5 x8 0).bind fun x105 =>
          (pI M103 5 x8 0 (zadd x105 1)).bind fun M107 =>
          (gR M107 0 a0 8).bind fun x109 =>
          (f_Mt_clear x109 M107).bind fun M112 =>
          (gI M112 0 a0 6).bind fun x113 =>
          (pI M112 0 a0 4 x113).bind fun M115 =>
          (f_V_syncAll a0 M115).bind fun M118 =>
          (gI M118 4 x96 0).bind fun x119 =>
          some ((zadd x119 x93), M118)) x8 zfu x98 M97) a0 x96 zfu 0 M95
    else
    (gR M 0 a0 8).bind fun x13 =>
    (f_Mt_begin x13 0 M).bind fun M16 =>
    (gR M16 0 a0 8).bind fun x17 =>
    (f_V_gather a0 x17 M16).bind fun M20 =>
    zb2 (f_V_sift a0 0 M20) fun x23 M22 =>
    zb2 (f_V_newTable a0 M22) fun x26 M25 =>
    f_V_flush_L66 (fun M47 =>
      (gI M47 5 x8 0).bind fun x48 =>
      f_V_flush_L123 (fun M59 =>
        (gR M59 5 x8 0).bind fun x60 =>
        (stR M59 23 x60 0 x26).bind fun M62 =>
        (gI M62 5 x8 0).bind fun x64 =>
        (pI M62 5 x8 0 (zadd x64 1)).bind fun M66 =>
        (gR M66 0 a0 8).bind fun x68 =>
        (f_Mt_clear x68 M66).bind fun M71 =>
        (gI M71 0 a0 6).bind fun x72 =>
        (pI M71 0 a0 4 x72).bind fun M74 =>
        (f_V_syncAll a0 M74).bind fun M77 =>
        (gI M77 4 x26 0).bind fun x78 =>
        some ((zadd x78 x23), M77)) x8 zfu x48 M47) a0 x26 zfu 0 M25
  else none
def f_V_remember (a0 : Nat) (a1 : Nat) (a2 : Int) (a3 : Int) (M : zHp) : Option (zHp) :=
  if zk M a0 = 0 then
    (gR M 0 a0 13).bind fun x1 =>
    if x1 = 0 then
      zb2 (znew M 1) fun x53 M56 =>
      (f_E_init x53 M56).bind fun M58 =>
      (gR M58 2 a1 0).bind fun x59 =>
      (ldI M58 20 x59 a2).bind fun x61 =>
      (pI M58 1 x53 0 (zrem x61 32)).bind fun M63 =>
      (gR M63 2 a1 0).bind fun x65 =>
      (ldI M63 20 x65 a2).bind fun x67 =>
      if zlt x67 32 then
        (pZ M63 1 x53 2 0).bind fun M70 =>
        (pI M70 1 x53 1 a3).bind fun M72 =>
        (gR M72 2 a1 2).bind fun x74 =>
        (ldI M72 20 x74 a2).bind fun x76 =>
        (pI M72 1 x53 3 x76).bind fun M78 =>
        (f_E_settle x53 a1 a2 M78).bind fun M81 =>
        (gR M81 0 a0 8).bind fun x82 =>
        (f_Mt_insert x82 x53 M81).bind fun M85 =>
        some M85
      else
      (pZ M63 1 x53 2 1).bind fun M86 =>
      (pI M86 1 x53 1 a3).bind fun M88 =>
      (gR M88 2 a1 2).bind fun x90 =>
      (ldI M88 20 x90 a2).bind fun x92 =>
      (pI M88 1 x53 3 x92).bind fun M94 =>
      (f_E_settle x53 a1 a2 M94).bind fun M97 =>
      (gR M97 0 a0 8).bind fun x98 =>
      (f_Mt_insert x98 x53 M97).bind fun M101 =>
      some M101
    else
    (gR M 1 x1 1).bind fun x4 =>
    (ldR M 22 x4 0).bind fun x6 =>
    (pR M 0 a0 13 x6).bind fun M8 =>
    (gR M8 2 a1 0).bind fun x10 =>
    (ldI M8 20 x10 a2).bind fun x12 =>
    (pI M8 1 x1 0 (zrem x12 32)).bind fun M14 =>
    (gR M14 2 a1 0).bind fun x16 =>
    (ldI M14 20 x16 a2).bind fun x18 =>
    if zlt x18 32 then
      (pZ M14 1 x1 2 0).bind fun M21 =>
      (pI M21 1 x1 1 a3).bind fun M23 =>
      (gR M23 2 a1 2).bind fun x25 =>
      (ldI M23 20 x25 a2).bind fun x27 =>
      (pI M23 1 x1 3 x27).bind fun M29 =>
      (f_E_settle x1 a1 a2 M29).bind fun M32 =>
      (gR M32 0 a0 8).bind fun x33 =>
      (f_Mt_insert x33 x1 M32).bind fun M36 =>
      some M36
    else
    (pZ M14 1 x1 2 1).bind fun M37 =>
    (pI M37 1 x1 1 a3).bind fun M39 =>
    (gR M39 2 a1 2).bind fun x41 =>
    (ldI M39 20 x41 a2).bind fun x43 =>
    (pI M39 1 x1 3 x43).bind fun M45 =>
    (f_E_settle x1 a1 a2 M45).bind fun M48 =>
    (gR M48 0 a0 8).bind fun x49 =>
    (f_Mt_insert x49 x1 M48).bind fun M52 =>
    some M52
  else none
def zf_V_commit_L82 : Nat := 7
def f_V_commit_L82 (κ : zHp → Option (Int × zHp)) (a0 : Nat) (a1 : Int) (a2 : Nat) : Nat → Int → zHp → Option (Int × zHp)
  | 0, _, _ => none
  | n + 1, v3, M =>
    if zle a1 v3 then
      κ M
    else
    (gR M 0 a0 6).bind fun x23 =>
    (ldI M 20 x23 v3).bind fun x25 =>
    if zle 0 x25 then
      (gR M 0 a0 4).bind fun x28 =>
      (ldI M 20 x28 v3).bind fun x30 =>
      zb2 (f_V_code x30 0 M) fun x34 M33 =>
      (gR M33 0 a0 5).bind fun x35 =>
      (ldI M33 20 x35 v3).bind fun x37 =>
      (gR M33 0 a0 6).bind fun x39 =>
      (ldI M33 20 x39 v3).bind fun x41 =>
      if zle x41 0 then
        zb2 (f_S_write a2 x34 x37 (-1) M33) fun x46 M45 =>
        (gI M45 0 a0 6).bind fun x47 =>
        (pI M45 0 a0 6 (zadd x47 1)).bind fun M49 =>
        (gI M49 0 a0 6).bind fun x51 =>
        (f_V_remember a0 a2 x46 x51 M49).bind fun M54 =>
        f_V_commit_L82 κ a0 a1 a2 n (zadd v3 1) M54
      else
      (gI M33 0 a0 5).bind fun x55 =>
      (gR M33 0 a0 6).bind fun x57 =>
      (ldI M33 20 x57 v3).bind fun x59 =>
      zb2 (f_S_write a2 x34 x37 (zadd x55 x59) M33) fun x63 M62 =>
      (gI M62 0 a0 6).bind fun x64 =>
      (pI M62 0 a0 6 (zadd x64 1)).bind fun M66 =>
      (gI M66 0 a0 6).bind fun x68 =>
      (f_V_remember a0 a2 x63 x68 M66).bind fun M71 =>
      f_V_commit_L82 κ a0 a1 a2 n (zadd v3 1) M71
    else
    (gR M 0 a0 4).bind fun x72 =>
    (ldI M 20 x72 v3).bind fun x74 =>
    zb2 (f_V_code x74 1 M) fun x78 M77 =>
    (gR M77 0 a0 5).bind fun x79 =>
    (ldI M77 20 x79 v3).bind fun x81 =>
    (gR M77 0 a0 6).bind fun x83 =>
    (ldI M77 20 x83 v3).bind fun x85 =>
    if zle x85 0 then
      zb2 (f_S_write a2 x78 x81 (-1) M77) fun x90 M89 =>
      (gI M89 0 a0 6).bind fun x91 =>
      (pI M89 0 a0 6 (zadd x91 1)).bind fun M93 =>
      (gI M93 0 a0 6).bind fun x95 =>
      (f_V_remember a0 a2 x90 x95 M93).bind fun M98 =>
      f_V_commit_L82 κ a0 a1 a2 n (zadd v3 1) M98
    else
    (gI M77 0 a0 5).bind fun x99 =>
    (gR M77 0 a0 6).bind fun x101 =>
    (ldI M77 20 x101 v3).bind fun x103 =>
    zb2 (f_S_write a2 x78 x81 (zadd x99 x103) M77) fun x107 M106 =>
    (gI M106 0 a0 6).bind fun x108 =>
    (pI M106 0 a0 6 (zadd x108 1)).bind fun M110 =>
    (gI M110 0 a0 6).bind fun x112 =>
    (f_V_remember a0 a2 x107 x112 M110).bind fun M115 =>
    f_V_commit_L82 κ a0 a1 a2 n (zadd v3 1) M115
def f_V_commit (a0 : Nat) (M : zHp) : Option (Int × zHp) :=
  if zk M a0 = 0 then
    (gI M 0 a0 7).bind fun x1 =>
    if zeq x1 0 then
      some ((-2), M)
    else
    (gR M 0 a0 1).bind fun x4 =>
    (gI M 2 x4 1).bind fun x6 =>
    if zle (zadd (zadd x6 x1) 1) 16 then
      (gR M 0 a0 8).bind fun x9 =>
      (gI M 3 x9 0).bind fun x11 =>
      if zle (zadd x11 x1) 8 then
        zb2 (f_V_room a0 (zadd x1 1) M) fun x16 M15 =>
        (gI M15 0 a0 6).bind fun x17 =>
        zb2 (f_S_write x16 x1 (zadd x17 1) 0 M15) fun x21 M20 =>
        f_V_commit_L82 (fun M116 =>
          (pI M116 0 a0 7 0).bind fun M117 =>
          (gI M117 0 a0 3).bind fun x119 =>
          (pI M117 0 a0 3 (zadd x119 1)).bind fun M121 =>
          some (x1, M121)) a0 x1 x16 zf_V_commit_L82 0 M20
      else
      zb2 (f_V_flush a0 M) fun x125 M124 =>
      zb2 (f_V_room a0 (zadd x1 1) M124) fun x128 M127 =>
      (gI M127 0 a0 6).bind fun x129 =>
      zb2 (f_S_write x128 x1 (zadd x129 1) 0 M127) fun x133 M132 =>
      f_V_commit_L82 (fun M134 =>
        (pI M134 0 a0 7 0).bind fun M135 =>
        (gI M135 0 a0 3).bind fun x137 =>
        (pI M135 0 a0 3 (zadd x137 1)).bind fun M139 =>
        some (x1, M139)) a0 x1 x128 zf_V_commit_L82 0 M132
    else
    (gI M 0 a0 0).bind fun x141 =>
    if zeq x141 8 then
      some ((-3), M)
    else
    (gR M 0 a0 8).bind fun x144 =>
    (gI M 3 x144 0).bind fun x146 =>
    if zle (zadd x146 x1) 8 then
      zb2 (f_V_room a0 (zadd x1 1) M) fun x151 M150 =>
      (gI M150 0 a0 6).bind fun x152 =>
      zb2 (f_S_write x151 x1 (zadd x152 1) 0 M150) fun x156 M155 =>
      f_V_commit_L82 (fun M157 =>
        (pI M157 0 a0 7 0).bind fun M158 =>
        (gI M158 0 a0 3).bind fun x160 =>
        (pI M158 0 a0 3 (zadd x160 1)).bind fun M162 =>
        some (x1, M162)) a0 x1 x151 zf_V_commit_L82 0 M155
    else
    zb2 (f_V_flush a0 M) fun x166 M165 =>
    zb2 (f_V_room a0 (zadd x1 1) M165) fun x169 M168 =>
    (gI M168 0 a0 6).bind fun x170 =>
    zb2 (f_S_write x169 x1 (zadd x170 1) 0 M168) fun x174 M173 =>
    f_V_commit_L82 (fun M175 =>
      (pI M175 0 a0 7 0).bind fun M176 =>
      (gI M176 0 a0 3).bind fun x178 =>
      (pI M176 0 a0 3 (zadd x178 1)).bind fun M180 =>
      some (x1, M180)) a0 x1 x169 zf_V_commit_L82 0 M173
  else none
def f_V_merge (a0 : Nat) (a1 : Int) (M : zHp) : Option (Int × zHp) :=
  if zk M a0 = 0 then
    if zeq a1 0 then
      (gR M 0 a0 9).bind fun x2 =>
      (ldR M 24 x2 a1).bind fun x4 =>
      (gI M 5 x4 0).bind fun x6 =>
      if zeq x6 0 then
        some ((-2), M)
      else
      zb2 (f_V_mergeFrom a0 a1 M) fun x11 M10 =>
      some (x11, M10)
    else
    if zeq a1 1 then
      (gR M 0 a0 9).bind fun x13 =>
      (ldR M 24 x13 a1).bind fun x15 =>
      (gI M 5 x15 0).bind fun x17 =>
      if zeq x17 0 then
        some ((-2), M)
      else
      zb2 (f_V_mergeFrom a0 a1 M) fun x22 M21 =>
      some (x22, M21)
    else
    some ((-1), M)
  else none
def f_V_owner_L41 (κ : zHp → Option (Nat × zHp)) (a1 : Nat) (a2 : Int) (a6 : Nat) (a7 : Int) : Nat → Int → zHp → Option (Nat × zHp)
  | 0, _, _ => none
  | n + 1, v8, M =>
    (gR M 5 a6 0).bind fun x11 =>
    (ldR M 23 x11 a7).bind fun x13 =>
    (gI M 4 x13 0).bind fun x15 =>
    if zle x15 v8 then
      κ M
    else
    (gR M 5 a6 0).bind fun x18 =>
    (ldR M 23 x18 a7).bind fun x20 =>
    (gR M 4 x20 0).bind fun x22 =>
    (ldR M 22 x22 v8).bind fun x24 =>
    (gR M 1 x24 0).bind fun x26 =>
    if x26 = a1 then
      (gI M 1 x24 4).bind fun x29 =>
      if zeq x29 a2 then
        (gI M 1 x24 2).bind fun x32 =>
        if zeq x32 0 then
          some (x24, M)
        else
        f_V_owner_L41 κ a1 a2 a6 a7 n (zadd v8 1) M
      else
      f_V_owner_L41 κ a1 a2 a6 a7 n (zadd v8 1) M
    else
    f_V_owner_L41 κ a1 a2 a6 a7 n (zadd v8 1) M
def f_V_owner_L28 (κ : zHp → Option (Nat × zHp)) (a1 : Nat) (a2 : Int) (a6 : Nat) : Nat → Int → zHp → Option (Nat × zHp)
  | 0, _, _ => none
  | n + 1, v7, M =>
    (gI M 5 a6 0).bind fun x8 =>
    if zle x8 v7 then
      κ M
    else
    f_V_owner_L41 (fun M35 =>
      f_V_owner_L28 κ a1 a2 a6 n (zadd v7 1) M35) a1 a2 a6 v7 zfu 0 M
def f_V_owner_L12 (κ : zHp → Option (Nat × zHp)) (a1 : Nat) (a2 : Int) (a3 : Nat) (a4 : Int) : Nat → Int → zHp → Option (Nat × zHp)
  | 0, _, _ => none
  | n + 1, v5, M =>
    if zle a4 v5 then
      κ M
    else
    (ldR M 24 a3 v5).bind fun x6 =>
    f_V_owner_L28 (fun M36 =>
      f_V_owner_L12 κ a1 a2 a3 a4 n (zadd v5 1) M36) a1 a2 x6 zfu 0 M
def f_V_owner (a0 : Nat) (a1 : Nat) (a2 : Int) (M : zHp) : Option (Nat × zHp) :=
  if zk M a0 = 0 then
    (gR M 0 a0 9).bind fun x1 =>
    (zlen M x1).bind fun x3 =>
    f_V_owner_L12 (fun M37 =>
      some (0, M37)) a1 a2 x1 x3 zfu 0 M
  else none
def f_V_fits_L19 (κ : Int → zHp → Option (Int × zHp)) : Nat → Int → Int → Int → zHp → Option (Int × zHp)
  | 0, _, _, _, _ => none
  | n + 1, v2, v3, v4, M =>
    if zle v4 0 then
      κ v3 M
    else
    if zle (zadd 1 (zmin v4 6)) v2 then
      f_V_fits_L19 κ n (zsub v2 (zadd 1 (zmin v4 6))) v3 (zadd v4 (-6)) M
    else
    f_V_fits_L19 κ n (zsub 16 (zadd 1 (zmin v4 6))) (zadd v3 1) (zadd v4 (-6)) M
def f_V_fits (a0 : Nat) (a1 : Int) (M : zHp) : Option (Int × zHp) :=
  if zk M a0 = 0 then
    (gR M 0 a0 1).bind fun x1 =>
    (gI M 2 x1 1).bind fun x3 =>
    (gI M 0 a0 0).bind fun x5 =>
    f_V_fits_L19 (fun v9 M10 =>
      if zlt 8 v9 then
        some (0, M10)
      else
      some (1, M10))  zfu (zsub 16 x3) x5 a1 M
  else none
def zf_V_collect_L51 : Nat := 17
def f_V_collect_L51 (κ : zHp → Option (Int × zHp)) (a0 : Nat) : Nat → Int → Int → Nat → Int → zHp → Option (Int × zHp)
  | 0, _, _, _, _, _ => none
  | n + 1, v2, v3, v4, v5, M =>
    (gR M 0 a0 0).bind fun x19 =>
    (gI M 2 x19 1).bind fun x21 =>
    if zle x21 v5 then
      κ M
    else
    if zle v2 0 then
      κ M
    else
    (gR M 0 a0 0).bind fun x25 =>
    zb2 (f_V_owner a0 x25 v5 M) fun x29 M28 =>
    if x29 = 0 then
      f_V_collect_L51 κ a0 n v2 v3 v4 (zadd v5 1) M28
    else
    if zeq v3 0 then
      zb2 (f_V_room a0 (zadd 1 (zmin v2 6)) M28) fun x49 M48 =>
      zb2 (f_S_write x49 (zmin v2 6) 0 0 M48) fun x52 M51 =>
      (gI M51 1 x29 0).bind fun x53 =>
      zb2 (f_V_code x53 0 M51) fun x57 M56 =>
      zb2 (f_E_value x29 M56) fun x60 M59 =>
      (gI M59 1 x29 3).bind fun x61 =>
      zb2 (f_S_write x49 x57 x60 x61 M59) fun x65 M64 =>
      (f_E_settle x29 x49 x65 M64).bind fun M67 =>
      f_V_collect_L51 κ a0 n (zadd v2 (-1)) (zadd (zmin v2 6) (-1)) x49 (zadd v5 1) M67
    else
    (gI M28 1 x29 0).bind fun x32 =>
    zb2 (f_V_code x32 0 M28) fun x36 M35 =>
    zb2 (f_E_value x29 M35) fun x39 M38 =>
    (gI M38 1 x29 3).bind fun x40 =>
    zb2 (f_S_write v4 x36 x39 x40 M38) fun x44 M43 =>
    (f_E_settle x29 v4 x44 M43).bind fun M46 =>
    f_V_collect_L51 κ a0 n (zadd v2 (-1)) (zadd v3 (-1)) v4 (zadd v5 1) M46
def f_V_collect (a0 : Nat) (M : zHp) : Option (Int × zHp) :=
  if zk M a0 = 0 then
    (gR M 0 a0 0).bind fun x1 =>
    (gR M 0 a0 1).bind fun x3 =>
    if x1 = x3 then
      some ((-2), M)
    else
    zb2 (f_V_flush a0 M) fun x8 M7 =>
    (gR M7 0 a0 0).bind fun x9 =>
    (gI M7 2 x9 2).bind fun x11 =>
    zb2 (f_V_fits a0 x11 M7) fun x15 M14 =>
    if zeq x15 0 then
      some ((-3), M14)
    else
    (gR M14 0 a0 1).bind fun x17 =>
    f_V_collect_L51 (fun M68 =>
      (gR M68 0 a0 0).bind fun x69 =>
      (gR M68 2 x69 3).bind fun x71 =>
      (pR M68 0 a0 0 x71).bind fun M73 =>
      (f_V_free a0 x69 M73).bind fun M76 =>
      (f_V_syncAll a0 M76).bind fun M78 =>
      some (x11, M78)) a0 zf_V_collect_L51 x11 0 x17 0 M14
  else none
def f_V_take_L2 (κ : zHp → Option (Int × zHp)) (a0 : Nat) : Nat → Int → zHp → Option (Int × zHp)
  | 0, _, _ => none
  | n + 1, v1, M =>
    if zle 3 v1 then
      κ M
    else
    (gR M 0 a0 7).bind fun x2 =>
    (ldI M 20 x2 v1).bind fun x4 =>
    if zle 0 x4 then
      f_V_take_L2 κ a0 n (zadd v1 1) M
    else
    (gR M 0 a0 7).bind fun x7 =>
    (gI M 0 a0 6).bind fun x9 =>
    (stI M 20 x7 v1 x9).bind fun M11 =>
    some (v1, M11)
def f_V_take (a0 : Nat) (M : zHp) : Option (Int × zHp) :=
  if zk M a0 = 0 then
    f_V_take_L2 (fun M13 =>
      some ((-3), M13)) a0 zfu 0 M
  else none
def f_V_release (a0 : Nat) (a1 : Int) (M : zHp) : Option (Int × zHp) :=
  if zk M a0 = 0 then
    if zlt a1 0 then
      some (0, M)
    else
    if zle 3 a1 then
      some (0, M)
    else
    (gR M 0 a0 7).bind fun x3 =>
    (ldI M 20 x3 a1).bind fun x5 =>
    if zle 0 x5 then
      (gR M 0 a0 7).bind fun x8 =>
      (stI M 20 x8 a1 (-1)).bind fun M10 =>
      some (1, M10)
    else
    some (0, M)
  else none
def f_V_tick (a0 : Nat) (a1 : Int) (M : zHp) : Option (Int × zHp) :=
  if zk M a0 = 0 then
    if zlt a1 0 then
      some ((-1), M)
    else
    if zle a1 1000 then
      (gI M 0 a0 5).bind fun x3 =>
      (pI M 0 a0 5 (zadd x3 a1)).bind fun M5 =>
      (gI M5 0 a0 5).bind fun x7 =>
      some (x7, M5)
    else
    some ((-1), M)
  else none
def f_V_cut_L21 (κ : Nat → Int → zHp → Option (zHp)) (a0 : Nat) (a1 : Int) : Nat → Nat → Int → Int → zHp → Option (zHp)
  | 0, _, _, _, _ => none
  | n + 1, v2, v3, v4, M =>
    if zle a1 v4 then
      κ v2 v3 M
    else
    (gI M 2 v2 1).bind fun x10 =>
    if zeq v3 x10 then
      (gR M 2 v2 3).bind fun x27 =>
      (gR M 2 x27 1).bind fun x29 =>
      (ldI M 20 x29 0).bind fun x31 =>
      (gR M 2 x27 0).bind fun x33 =>
      (ldI M 20 x33 0).bind fun x35 =>
      (pI M 0 a0 6 (zsub (zadd x31 x35) 1)).bind fun M37 =>
      (gR M37 2 x27 0).bind fun x39 =>
      (ldI M37 20 x39 0).bind fun x41 =>
      f_V_cut_L21 κ a0 a1 n x27 (zadd 0 (zadd 1 x41)) (zadd v4 1) M37
    else
    (gR M 2 v2 1).bind fun x13 =>
    (ldI M 20 x13 v3).bind fun x15 =>
    (gR M 2 v2 0).bind fun x17 =>
    (ldI M 20 x17 v3).bind fun x19 =>
    (pI M 0 a0 6 (zsub (zadd x15 x19) 1)).bind fun M21 =>
    (gR M21 2 v2 0).bind fun x23 =>
    (ldI M21 20 x23 v3).bind fun x25 =>
    f_V_cut_L21 κ a0 a1 n v2 (zadd v3 (zadd 1 x25)) (zadd v4 1) M21
def f_V_cut_L99 (κ : zHp → Option (zHp)) (a0 : Nat) : Nat → Nat → zHp → Option (zHp)
  | 0, _, _ => none
  | n + 1, v4, M =>
    if v4 = 0 then
      κ M
    else
    (gR M 2 v4 3).bind fun x55 =>
    (f_V_free a0 v4 M).bind fun M58 =>
    f_V_cut_L99 κ a0 n x55 M58
def f_V_cut (a0 : Nat) (a1 : Int) (M : zHp) : Option (zHp) :=
  if zk M a0 = 0 then
    (gR M 0 a0 3).bind fun x1 =>
    (gI M 0 a0 1).bind fun x3 =>
    (gI M 0 a0 2).bind fun x5 =>
    (pI M 0 a0 6 x5).bind fun M7 =>
    f_V_cut_L21 (fun v43 v44 M45 =>
      (gR M45 2 v43 3).bind fun x46 =>
      (pI M45 2 v43 1 v44).bind fun M48 =>
      (pR M48 2 v43 3 0).bind fun M50 =>
      (pR M50 0 a0 1 v43).bind fun M52 =>
      f_V_cut_L99 (fun M59 =>
        some M59) a0 zfu x46 M52) a0 a1 zfu x1 x3 0 M7
  else none
def zf_V_replay_L28 : Nat := 7
def f_V_replay_L28 (κ : zHp → Option (zHp)) (a0 : Nat) (a1 : Nat) (a2 : Int) (a3 : Int) (a4 : Int) : Nat → Int → zHp → Option (zHp)
  | 0, _, _ => none
  | n + 1, v5, M =>
    if zle a3 v5 then
      κ M
    else
    (gI M 0 a0 4).bind fun x13 =>
    if zle a4 x13 then
      κ M
    else
    (f_V_remember a0 a1 (zadd (zadd a2 1) v5) (zadd a4 v5) M).bind fun M17 =>
    f_V_replay_L28 κ a0 a1 a2 a3 a4 n (zadd v5 1) M17
def zf_V_replay_L2 : Nat := 9
def f_V_replay_L2 (κ : zHp → Option (zHp)) (a0 : Nat) (a1 : Nat) : Nat → Int → zHp → Option (zHp)
  | 0, _, _ => none
  | n + 1, v2, M =>
    (gI M 2 a1 1).bind fun x1 =>
    if zle x1 v2 then
      κ M
    else
    (gR M 2 a1 0).bind fun x4 =>
    (ldI M 20 x4 v2).bind fun x6 =>
    (gR M 2 a1 1).bind fun x8 =>
    (ldI M 20 x8 v2).bind fun x10 =>
    f_V_replay_L28 (fun M18 =>
      f_V_replay_L2 κ a0 a1 n (zadd v2 (zadd 1 x6)) M18) a0 a1 v2 x6 x10 zf_V_replay_L28 0 M
def f_V_replay (a0 : Nat) (a1 : Nat) (M : zHp) : Option (zHp) :=
  if zk M a0 = 0 then
    f_V_replay_L2 (fun M19 =>
      some M19) a0 a1 zf_V_replay_L2 0 M
  else none
def f_V_crash_L23 (κ : zHp → Option (Int × zHp)) (a0 : Nat) : Nat → Int → zHp → Option (Int × zHp)
  | 0, _, _ => none
  | n + 1, v4, M =>
    if zle 3 v4 then
      κ M
    else
    (gR M 0 a0 7).bind fun x6 =>
    (stI M 20 x6 v4 (-1)).bind fun M8 =>
    f_V_crash_L23 κ a0 n (zadd v4 1) M8
def f_V_crash_L79 (κ : zHp → Option (Int × zHp)) (a0 : Nat) : Nat → Int → zHp → Option (Int × zHp)
  | 0, _, _ => none
  | n + 1, v4, M =>
    (gI M 0 a0 9).bind fun x27 =>
    if zle x27 v4 then
      κ M
    else
    (gR M 0 a0 14).bind fun x30 =>
    (ldR M 22 x30 v4).bind fun x32 =>
    (f_V_drop a0 x32 M).bind fun M35 =>
    f_V_crash_L79 κ a0 n (zadd v4 1) M35
def zf_V_crash_L111 : Nat := 9
def f_V_crash_L111 (κ : zHp → Option (Int × zHp)) (a0 : Nat) : Nat → Nat → zHp → Option (Int × zHp)
  | 0, _, _ => none
  | n + 1, v4, M =>
    if v4 = 0 then
      κ M
    else
    (f_V_replay a0 v4 M).bind fun M41 =>
    (gR M41 2 v4 3).bind fun x42 =>
    f_V_crash_L111 κ a0 n x42 M41
def f_V_crash (a0 : Nat) (a1 : Int) (M : zHp) : Option (Int × zHp) :=
  if zk M a0 = 0 then
    (gI M 0 a0 3).bind fun x1 =>
    (gI M 0 a0 3).bind fun x3 =>
    f_V_crash_L23 (fun M10 =>
      (pI M10 0 a0 7 0).bind fun M11 =>
      (f_V_cut a0 (zmax 0 (zmin a1 x1)) M11).bind fun M14 =>
      (gR M14 0 a0 8).bind fun x15 =>
      (f_Mt_begin x15 0 M14).bind fun M18 =>
      (gR M18 0 a0 8).bind fun x19 =>
      (f_V_gather a0 x19 M18).bind fun M22 =>
      (gR M22 0 a0 8).bind fun x23 =>
      (f_Mt_clear x23 M22).bind fun M26 =>
      f_V_crash_L79 (fun M36 =>
        (gR M36 0 a0 0).bind fun x37 =>
        f_V_crash_L111 (fun M44 =>
          (f_V_syncAll a0 M44).bind fun M46 =>
          some ((zsub x3 (zmax 0 (zmin a1 x1))), M46)) a0 zf_V_crash_L111 x37 M36) a0 zfu 0 M26) a0 zfu 0 M
  else none
def f_V_isSnapshot (a0 : Nat) (a1 : Int) (M : zHp) : Option (Int × zHp) :=
  if zk M a0 = 0 then
    if zeq a1 (-1) then
      some (1, M)
    else
    if zlt a1 0 then
      some (0, M)
    else
    if zle 3 a1 then
      some (0, M)
    else
    (gR M 0 a0 7).bind fun x4 =>
    (ldI M 20 x4 a1).bind fun x6 =>
    if zlt x6 0 then
      some (0, M)
    else
    some (1, M)
  else none
def f_V_sees (a0 : Nat) (a1 : Int) (M : zHp) : Option (Int × zHp) :=
  if zk M a0 = 0 then
    if zle 0 a1 then
      (gR M 0 a0 7).bind fun x2 =>
      (ldI M 20 x2 a1).bind fun x4 =>
      some (x4, M)
    else
    some (2147483647, M)
  else none
def f_V_search_L39 (κ : Nat → zHp → Option (Nat × zHp)) (a0 : Nat) (a2 : Int) (a3 : Int) (a5 : Int) : Nat → Nat → Int → zHp → Option (Nat × zHp)
  | 0, _, _, _ => none
  | n + 1, v4, v6, M =>
    (gR M 0 a0 9).bind fun x13 =>
    (ldR M 24 x13 a5).bind fun x15 =>
    (gI M 5 x15 0).bind fun x17 =>
    if zle x17 v6 then
      κ v4 M
    else
    if v4 = 0 then
      (gR M 0 a0 9).bind fun x21 =>
      (ldR M 24 x21 a5).bind fun x23 =>
      (gR M 5 x23 0).bind fun x25 =>
      (ldR M 23 x25 v6).bind fun x27 =>
      zb2 (f_Tb_may x27 a2 M) fun x31 M30 =>
      if zeq x31 0 then
        f_V_search_L39 κ a0 a2 a3 a5 n v4 (zadd v6 1) M30
      else
      (gI M30 0 a0 8).bind fun x33 =>
      (pI M30 0 a0 8 (zadd x33 1)).bind fun M35 =>
      zb2 (f_Tb_find x27 a2 a3 M35) fun x39 M38 =>
      f_V_search_L39 κ a0 a2 a3 a5 n x39 (zadd v6 1) M38
    else
    κ v4 M
def f_V_search_L25 (κ : Nat → zHp → Option (Nat × zHp)) (a0 : Nat) (a2 : Int) (a3 : Int) : Nat → Nat → Int → zHp → Option (Nat × zHp)
  | 0, _, _, _ => none
  | n + 1, v4, v5, M =>
    if zle 3 v5 then
      κ v4 M
    else
    if v4 = 0 then
      f_V_search_L39 (fun v40 M41 =>
        f_V_search_L25 κ a0 a2 a3 n v40 (zadd v5 1) M41) a0 a2 a3 v5 zfu v4 0 M
    else
    κ v4 M
def f_V_search (a0 : Nat) (a1 : Int) (a2 : Int) (M : zHp) : Option (Nat × zHp) :=
  if zk M a0 = 0 then
    zb2 (f_V_sees a0 a1 M) fun x3 M2 =>
    (pI M2 0 a0 8 0).bind fun M4 =>
    (gR M4 0 a0 8).bind fun x6 =>
    zb2 (f_Mt_find x6 a2 x3 M4) fun x10 M9 =>
    f_V_search_L25 (fun v42 M43 =>
      if v42 = 0 then
        some (v42, M43)
      else
      (gI M43 0 a0 5).bind fun x45 =>
      zb2 (f_E_gone v42 x45 M43) fun x49 M48 =>
      if zeq x49 0 then
        some (v42, M48)
      else
      some (0, M48)) a0 a2 x3 zfu x10 0 M9
  else none
def f_V_has (a0 : Nat) (a1 : Int) (a2 : Int) (M : zHp) : Option (Int × zHp) :=
  if zk M a0 = 0 then
    zb2 (f_V_isSnapshot a0 a1 M) fun x3 M2 =>
    if zeq x3 0 then
      some (0, M2)
    else
    zb2 (f_V_isKey a2 M2) fun x7 M6 =>
    if zeq x7 0 then
      some (0, M6)
    else
    zb2 (f_V_search a0 a1 a2 M6) fun x11 M10 =>
    if x11 = 0 then
      some (0, M10)
    else
    some (1, M10)
  else none
def f_V_get (a0 : Nat) (a1 : Int) (a2 : Int) (M : zHp) : Option (Int × zHp) :=
  if zk M a0 = 0 then
    zb2 (f_V_isSnapshot a0 a1 M) fun x3 M2 =>
    if zeq x3 0 then
      some (0, M2)
    else
    zb2 (f_V_isKey a2 M2) fun x7 M6 =>
    if zeq x7 0 then
      some (0, M6)
    else
    zb2 (f_V_search a0 a1 a2 M6) fun x11 M10 =>
    if x11 = 0 then
      some (0, M10)
    else
    zb2 (f_E_value x11 M10) fun x15 M14 =>
    some (x15, M14)
  else none
def f_V_scan_L51 (κ : zHp → Option (Int × zHp)) (a0 : Nat) (a2 : Int) : Nat → Int → zHp → Option (Int × zHp)
  | 0, _, _ => none
  | n + 1, v5, M =>
    if zle 3 v5 then
      κ M
    else
    (f_V_join a0 v5 a2 M).bind fun M25 =>
    f_V_scan_L51 κ a0 a2 n (zadd v5 1) M25
def f_V_scan_L85 (κ : zHp → Option (Int × zHp)) (a0 : Nat) (a4 : Int) : Nat → Int → Int → Nat → zHp → Option (Int × zHp)
  | 0, _, _, _, _ => none
  | n + 1, v5, v6, v7, M =>
    if v7 = 0 then
      κ M
    else
    (gI M 1 v7 0).bind fun x33 =>
    if zeq x33 v6 then
      (gR M 0 a0 11).bind fun x36 =>
      (f_Mg_step x36 M).bind fun M39 =>
      (gR M39 0 a0 11).bind fun x40 =>
      zb2 (f_Mg_look x40 M39) fun x44 M43 =>
      f_V_scan_L85 κ a0 a4 n v5 v6 x44 M43
    else
    (gI M 1 v7 1).bind fun x45 =>
    if zlt a4 x45 then
      (gR M 0 a0 11).bind fun x48 =>
      (f_Mg_step x48 M).bind fun M51 =>
      (gR M51 0 a0 11).bind fun x52 =>
      zb2 (f_Mg_look x52 M51) fun x56 M55 =>
      f_V_scan_L85 κ a0 a4 n v5 v6 x56 M55
    else
    (gI M 1 v7 0).bind fun x57 =>
    (gI M 0 a0 5).bind fun x59 =>
    zb2 (f_E_gone v7 x59 M) fun x63 M62 =>
    if zeq x63 0 then
      if zeq v5 0 then
        (gI M62 1 v7 0).bind fun x114 =>
        some (x114, M62)
      else
      (gI M62 0 a0 5).bind fun x90 =>
      zb2 (f_E_gone v7 x90 M62) fun x94 M93 =>
      if zeq x94 0 then
        (gR M93 0 a0 11).bind fun x96 =>
        (f_Mg_step x96 M93).bind fun M99 =>
        (gR M99 0 a0 11).bind fun x100 =>
        zb2 (f_Mg_look x100 M99) fun x104 M103 =>
        f_V_scan_L85 κ a0 a4 n (zsub v5 1) x57 x104 M103
      else
      (gR M93 0 a0 11).bind fun x105 =>
      (f_Mg_step x105 M93).bind fun M108 =>
      (gR M108 0 a0 11).bind fun x109 =>
      zb2 (f_Mg_look x109 M108) fun x113 M112 =>
      f_V_scan_L85 κ a0 a4 n (zsub v5 0) x57 x113 M112
    else
    (gI M62 0 a0 5).bind fun x65 =>
    zb2 (f_E_gone v7 x65 M62) fun x69 M68 =>
    if zeq x69 0 then
      (gR M68 0 a0 11).bind fun x71 =>
      (f_Mg_step x71 M68).bind fun M74 =>
      (gR M74 0 a0 11).bind fun x75 =>
      zb2 (f_Mg_look x75 M74) fun x79 M78 =>
      f_V_scan_L85 κ a0 a4 n (zsub v5 1) x57 x79 M78
    else
    (gR M68 0 a0 11).bind fun x80 =>
    (f_Mg_step x80 M68).bind fun M83 =>
    (gR M83 0 a0 11).bind fun x84 =>
    zb2 (f_Mg_look x84 M83) fun x88 M87 =>
    f_V_scan_L85 κ a0 a4 n (zsub v5 0) x57 x88 M87
def f_V_scan (a0 : Nat) (a1 : Int) (a2 : Int) (a3 : Int) (M : zHp) : Option (Int × zHp) :=
  if zk M a0 = 0 then
    zb2 (f_V_isSnapshot a0 a1 M) fun x3 M2 =>
    if zeq x3 0 then
      some ((-1), M2)
    else
    if zle 0 a3 then
      zb2 (f_V_sees a0 a1 M2) fun x8 M7 =>
      (gR M7 0 a0 11).bind fun x9 =>
      (pI M7 7 x9 0 0).bind fun M11 =>
      (gR M11 0 a0 8).bind fun x13 =>
      (f_Mt_begin x13 a2 M11).bind fun M16 =>
      (gR M16 0 a0 11).bind fun x17 =>
      (gR M16 0 a0 8).bind fun x19 =>
      (f_Mg_add x17 x19 M16).bind fun M22 =>
      f_V_scan_L51 (fun M26 =>
        (gR M26 0 a0 11).bind fun x27 =>
        zb2 (f_Mg_look x27 M26) fun x31 M30 =>
        f_V_scan_L85 (fun M116 =>
          some ((-2), M116)) a0 x8 zfu a3 (-1) x31 M30) a0 a2 zfu 0 M22
    else
    some ((-1), M2)
  else none
def f_V_probes (a0 : Nat) (M : zHp) : Option (Int × zHp) :=
  if zk M a0 = 0 then
    (gI M 0 a0 8).bind fun x1 =>
    some (x1, M)
  else none
def f_V_table_L138 (κ : Int → zHp → Option (Int × zHp)) (a5 : Nat) : Nat → Int → Int → zHp → Option (Int × zHp)
  | 0, _, _, _ => none
  | n + 1, v6, v7, M =>
    (gI M 4 a5 0).bind fun x39 =>
    if zle x39 v7 then
      κ v6 M
    else
    (gR M 4 a5 0).bind fun x42 =>
    (ldR M 22 x42 v7).bind fun x44 =>
    (gI M 1 x44 1).bind fun x46 =>
    f_V_table_L138 κ a5 n (zmax v6 x46) (zadd v7 1) M
def f_V_table (a0 : Nat) (a1 : Int) (a2 : Int) (a3 : Int) (M : zHp) : Option (Int × zHp) :=
  if zk M a0 = 0 then
    if zlt a1 0 then
      some ((-2), M)
    else
    if zlt a1 3 then
      (gR M 0 a0 9).bind fun x3 =>
      (ldR M 24 x3 a1).bind fun x5 =>
      if zeq a2 (-1) then
        (gI M 5 x5 0).bind fun x50 =>
        some (x50, M)
      else
      if zlt a2 0 then
        some ((-2), M)
      else
      (gI M 5 x5 0).bind fun x9 =>
      if zlt a2 x9 then
        (gR M 5 x5 0).bind fun x12 =>
        (ldR M 23 x12 a2).bind fun x14 =>
        if zeq a3 0 then
          (gI M 4 x14 0).bind fun x17 =>
          some (x17, M)
        else
        if zeq a3 1 then
          (gI M 4 x14 1).bind fun x20 =>
          some (x20, M)
        else
        if zeq a3 2 then
          (gR M 4 x14 0).bind fun x23 =>
          (ldR M 22 x23 0).bind fun x25 =>
          (gI M 1 x25 0).bind fun x27 =>
          some (x27, M)
        else
        if zeq a3 3 then
          (gR M 4 x14 0).bind fun x30 =>
          (gI M 4 x14 0).bind fun x32 =>
          (ldR M 22 x30 (zsub x32 1)).bind fun x34 =>
          (gI M 1 x34 0).bind fun x36 =>
          some (x36, M)
        else
        if zeq a3 4 then
          f_V_table_L138 (fun v48 M49 =>
            some (v48, M49)) x14 zfu 0 0 M
        else
        some ((-2), M)
      else
      some ((-2), M)
    else
    some ((-2), M)
  else none
def f_V_segment_L26 (κ : Nat → zHp → Option (Int × zHp)) (a1 : Int) : Nat → Nat → Int → zHp → Option (Int × zHp)
  | 0, _, _, _ => none
  | n + 1, v3, v4, M =>
    if zle a1 v4 then
      κ v3 M
    else
    if v3 = 0 then
      κ v3 M
    else
    (gR M 2 v3 3).bind fun x7 =>
    f_V_segment_L26 κ a1 n x7 (zadd v4 1) M
def f_V_segment (a0 : Nat) (a1 : Int) (a2 : Int) (M : zHp) : Option (Int × zHp) :=
  if zk M a0 = 0 then
    if zeq a1 (-1) then
      (gI M 0 a0 0).bind fun x33 =>
      some (x33, M)
    else
    if zle 0 a1 then
      (gR M 0 a0 0).bind fun x3 =>
      f_V_segment_L26 (fun v9 M10 =>
        if v9 = 0 then
          some ((-2), M10)
        else
        if zeq a2 0 then
          (gI M10 2 v9 0).bind fun x19 =>
          some (x19, M10)
        else
        if zeq a2 1 then
          (gI M10 2 v9 1).bind fun x17 =>
          some (x17, M10)
        else
        if zeq a2 2 then
          (gI M10 2 v9 2).bind fun x15 =>
          some (x15, M10)
        else
        some ((-2), M10)) a1 zfu x3 0 M
    else
    f_V_segment_L26 (fun v21 M22 =>
      if v21 = 0 then
        some ((-2), M22)
      else
      if zeq a2 0 then
        (gI M22 2 v21 0).bind fun x31 =>
        some (x31, M22)
      else
      if zeq a2 1 then
        (gI M22 2 v21 1).bind fun x29 =>
        some (x29, M22)
      else
      if zeq a2 2 then
        (gI M22 2 v21 2).bind fun x27 =>
        some (x27, M22)
      else
      some ((-2), M22)) a1 zfu 0 0 M
  else none
def f_V_look_L73 (κ : Int → zHp → Option (Int × zHp)) (a3 : Nat) (a4 : Int) : Nat → Int → Int → zHp → Option (Int × zHp)
  | 0, _, _, _ => none
  | n + 1, v2, v5, M =>
    if zle a4 v5 then
      κ v2 M
    else
    (ldI M 20 a3 v5).bind fun x21 =>
    if zle 0 x21 then
      f_V_look_L73 κ a3 a4 n (zadd v2 1) (zadd v5 1) M
    else
    f_V_look_L73 κ a3 a4 n (zadd v2 0) (zadd v5 1) M
def f_V_look (a0 : Nat) (a1 : Int) (M : zHp) : Option (Int × zHp) :=
  if zk M a0 = 0 then
    if zeq a1 0 then
      (gR M 0 a0 8).bind fun x2 =>
      (gI M 3 x2 0).bind fun x4 =>
      some (x4, M)
    else
    if zeq a1 1 then
      (gI M 0 a0 6).bind fun x7 =>
      some (x7, M)
    else
    if zeq a1 2 then
      (gI M 0 a0 3).bind fun x10 =>
      some (x10, M)
    else
    if zeq a1 3 then
      (gI M 0 a0 7).bind fun x13 =>
      some (x13, M)
    else
    if zeq a1 4 then
      (gR M 0 a0 7).bind fun x16 =>
      (zlen M x16).bind fun x18 =>
      f_V_look_L73 (fun v24 M25 =>
        some (v24, M25)) x16 x18 zfu 0 0 M
    else
    some ((-2), M)
  else none
def f_Md_init (a0 : Nat) (M : zHp) : Option (zHp) :=
  zb2 (znaI M 20 520 520) fun x1 M3 =>
  (pR M3 8 a0 0 x1).bind fun M4 =>
  zb2 (znaI M4 20 520 520) fun x6 M8 =>
  (pR M8 8 a0 1 x6).bind fun M9 =>
  zb2 (znaI M9 20 520 520) fun x11 M13 =>
  (pR M13 8 a0 2 x11).bind fun M14 =>
  zb2 (znaI M14 21 520 520) fun x16 M18 =>
  (pR M18 8 a0 3 x16).bind fun M19 =>
  zb2 (znaI M19 20 520 520) fun x21 M23 =>
  (pR M23 8 a0 4 x21).bind fun M24 =>
  zb2 (znaI M24 20 520 520) fun x26 M28 =>
  (pR M28 8 a0 5 x26).bind fun M29 =>
  zb2 (znaI M29 20 520 520) fun x31 M33 =>
  (pR M33 8 a0 6 x31).bind fun M34 =>
  zb2 (znaI M34 20 520 520) fun x36 M38 =>
  (pR M38 8 a0 7 x36).bind fun M39 =>
  zb2 (znaI M39 20 520 520) fun x41 M43 =>
  (pR M43 8 a0 8 x41).bind fun M44 =>
  zb2 (znaI M44 21 520 520) fun x46 M48 =>
  (pR M48 8 a0 9 x46).bind fun M49 =>
  zb2 (znaI M49 21 520 520) fun x51 M53 =>
  (pR M53 8 a0 10 x51).bind fun M54 =>
  zb2 (znaI M54 20 6 6) fun x56 M58 =>
  (pR M58 8 a0 11 x56).bind fun M59 =>
  zb2 (znaI M59 20 6 6) fun x61 M63 =>
  (pR M63 8 a0 12 x61).bind fun M64 =>
  zb2 (znaI M64 20 6 6) fun x66 M68 =>
  (pR M68 8 a0 13 x66).bind fun M69 =>
  zb2 (znaI M69 21 3 3) fun x71 M73 =>
  (pR M73 8 a0 14 x71).bind fun M74 =>
  zb2 (znaI M74 20 3 3) fun x76 M78 =>
  (pR M78 8 a0 15 x76).bind fun M79 =>
  zb2 (znaI M79 20 8 8) fun x81 M83 =>
  (pR M83 8 a0 16 x81).bind fun M84 =>
  zb2 (znaI M84 20 16 16) fun x86 M88 =>
  (pR M88 8 a0 17 x86).bind fun M89 =>
  zb2 (znaI M89 20 16 16) fun x91 M93 =>
  (pR M93 8 a0 18 x91).bind fun M94 =>
  zb2 (znaI M94 21 16 16) fun x96 M98 =>
  (pR M98 8 a0 19 x96).bind fun M99 =>
  some M99
def f_Md_gone (a0 : Nat) (a1 : Int) (M : zHp) : Option (Int × zHp) :=
  if zk M a0 = 8 then
    (gR M 8 a0 3).bind fun x1 =>
    (ldI M 21 x1 a1).bind fun x3 =>
    if zeq x3 0 then
      (gR M 8 a0 4).bind fun x6 =>
      (ldI M 20 x6 a1).bind fun x8 =>
      if zle x8 0 then
        some (0, M)
      else
      (gI M 8 a0 0).bind fun x11 =>
      (gR M 8 a0 4).bind fun x13 =>
      (ldI M 20 x13 a1).bind fun x15 =>
      if zlt x11 x15 then
        some (0, M)
      else
      some (1, M)
    else
    some (1, M)
  else none
def f_Md_size_L4 (κ : Int → zHp → Option (Int × zHp)) (a0 : Nat) (a1 : Int) : Nat → Int → Int → zHp → Option (Int × zHp)
  | 0, _, _, _ => none
  | n + 1, v2, v3, M =>
    (gI M 8 a0 1).bind fun x1 =>
    if zle x1 v3 then
      κ v2 M
    else
    (gR M 8 a0 5).bind fun x4 =>
    (ldI M 20 x4 v3).bind fun x6 =>
    if zeq x6 a1 then
      f_Md_size_L4 κ a0 a1 n (zadd v2 1) (zadd v3 1) M
    else
    f_Md_size_L4 κ a0 a1 n v2 (zadd v3 1) M
def f_Md_size (a0 : Nat) (a1 : Int) (M : zHp) : Option (Int × zHp) :=
  if zk M a0 = 8 then
    f_Md_size_L4 (fun v9 M10 =>
      some (v9, M10)) a0 a1 zfu 0 0 M
  else none
def f_Md_before (a0 : Nat) (a1 : Int) (a2 : Int) (M : zHp) : Option (Int × zHp) :=
  if zk M a0 = 8 then
    (gR M 8 a0 0).bind fun x1 =>
    (ldI M 20 x1 a1).bind fun x3 =>
    (gR M 8 a0 0).bind fun x5 =>
    (ldI M 20 x5 a2).bind fun x7 =>
    if zlt x3 x7 then
      some (1, M)
    else
    (gR M 8 a0 0).bind fun x10 =>
    (ldI M 20 x10 a1).bind fun x12 =>
    (gR M 8 a0 0).bind fun x14 =>
    (ldI M 20 x14 a2).bind fun x16 =>
    if zeq x12 x16 then
      (gR M 8 a0 1).bind fun x19 =>
      (ldI M 20 x19 a1).bind fun x21 =>
      (gR M 8 a0 1).bind fun x23 =>
      (ldI M 20 x23 a2).bind fun x25 =>
      if zle x21 x25 then
        some (0, M)
      else
      some (1, M)
    else
    some (0, M)
  else none
def f_Md_arrange_L37 (κ : Int → zHp → Option (zHp)) (a0 : Nat) (a1 : Int) : Nat → Int → Int → zHp → Option (zHp)
  | 0, _, _, _ => none
  | n + 1, v2, v3, M =>
    (gI M 8 a0 1).bind fun x9 =>
    if zle x9 v3 then
      κ v2 M
    else
    (gR M 8 a0 5).bind fun x12 =>
    (ldI M 20 x12 v3).bind fun x14 =>
    (gR M 8 a0 5).bind fun x16 =>
    (ldI M 20 x16 a1).bind fun x18 =>
    if zeq x14 x18 then
      zb2 (f_Md_before a0 v3 a1 M) fun x23 M22 =>
      if zeq x23 0 then
        f_Md_arrange_L37 κ a0 a1 n v2 (zadd v3 1) M22
      else
      f_Md_arrange_L37 κ a0 a1 n (zadd v2 1) (zadd v3 1) M22
    else
    f_Md_arrange_L37 κ a0 a1 n v2 (zadd v3 1) M
def f_Md_arrange_L2 (κ : zHp → Option (zHp)) (a0 : Nat) : Nat → Int → zHp → Option (zHp)
  | 0, _, _ => none
  | n + 1, v1, M =>
    (gI M 8 a0 1).bind fun x1 =>
    if zle x1 v1 then
      κ M
    else
    (gR M 8 a0 5).bind fun x4 =>
    (ldI M 20 x4 v1).bind fun x6 =>
    if zeq x6 1 then
      f_Md_arrange_L37 (fun v25 M26 =>
        (gR M26 8 a0 6).bind fun x27 =>
        (stI M26 20 x27 v1 v25).bind fun M29 =>
        f_Md_arrange_L2 κ a0 n (zadd v1 1) M29) a0 v1 zfu 0 0 M
    else
    (gR M 8 a0 5).bind fun x31 =>
    (ldI M 20 x31 v1).bind fun x33 =>
    if zeq x33 2 then
      f_Md_arrange_L37 (fun v36 M37 =>
        (gR M37 8 a0 6).bind fun x38 =>
        (stI M37 20 x38 v1 v36).bind fun M40 =>
        f_Md_arrange_L2 κ a0 n (zadd v1 1) M40) a0 v1 zfu 0 0 M
    else
    f_Md_arrange_L2 κ a0 n (zadd v1 1) M
def f_Md_arrange (a0 : Nat) (M : zHp) : Option (zHp) :=
  if zk M a0 = 8 then
    f_Md_arrange_L2 (fun M42 =>
      some M42) a0 zfu 0 M
  else none
def f_Md_above_L4 (κ : Int → zHp → Option (Int × zHp)) (a0 : Nat) (a1 : Int) : Nat → Int → Int → zHp → Option (Int × zHp)
  | 0, _, _, _ => none
  | n + 1, v2, v3, M =>
    (gI M 8 a0 1).bind fun x1 =>
    if zle x1 v3 then
      κ v2 M
    else
    (gR M 8 a0 9).bind fun x4 =>
    (ldI M 21 x4 v3).bind fun x6 =>
    if zeq x6 0 then
      f_Md_above_L4 κ a0 a1 n v2 (zadd v3 1) M
    else
    (gR M 8 a0 0).bind fun x10 =>
    (ldI M 20 x10 v3).bind fun x12 =>
    (gR M 8 a0 0).bind fun x14 =>
    (ldI M 20 x14 a1).bind fun x16 =>
    if zeq x12 x16 then
      (gR M 8 a0 1).bind fun x20 =>
      (ldI M 20 x20 v3).bind fun x22 =>
      (gR M 8 a0 1).bind fun x24 =>
      (ldI M 20 x24 a1).bind fun x26 =>
      if zle x22 x26 then
        f_Md_above_L4 κ a0 a1 n v2 (zadd v3 1) M
      else
      if zlt v2 0 then
        f_Md_above_L4 κ a0 a1 n v3 (zadd v3 1) M
      else
      (gR M 8 a0 1).bind fun x32 =>
      (ldI M 20 x32 v3).bind fun x34 =>
      (gR M 8 a0 1).bind fun x36 =>
      (ldI M 20 x36 v2).bind fun x38 =>
      if zle x38 x34 then
        f_Md_above_L4 κ a0 a1 n v2 (zadd v3 1) M
      else
      f_Md_above_L4 κ a0 a1 n v3 (zadd v3 1) M
    else
    f_Md_above_L4 κ a0 a1 n v2 (zadd v3 1) M
def f_Md_above (a0 : Nat) (a1 : Int) (M : zHp) : Option (Int × zHp) :=
  if zk M a0 = 8 then
    f_Md_above_L4 (fun v41 M42 =>
      some (v41, M42)) a0 a1 zfu (-1) 0 M
  else none
def f_Md_parted_L5 (κ : Int → zHp → Option (Int × zHp)) (a0 : Nat) (a1 : Int) (a2 : Int) : Nat → Int → Int → zHp → Option (Int × zHp)
  | 0, _, _, _ => none
  | n + 1, v3, v4, M =>
    if zle 3 v4 then
      κ v3 M
    else
    if zeq v3 0 then
      (gR M 8 a0 14).bind fun x3 =>
      (ldI M 21 x3 v4).bind fun x5 =>
      if zeq x5 0 then
        f_Md_parted_L5 κ a0 a1 a2 n 0 (zadd v4 1) M
      else
      (gR M 8 a0 1).bind fun x8 =>
      (ldI M 20 x8 a1).bind fun x10 =>
      (gR M 8 a0 15).bind fun x12 =>
      (ldI M 20 x12 v4).bind fun x14 =>
      if zlt x14 x10 then
        f_Md_parted_L5 κ a0 a1 a2 n 0 (zadd v4 1) M
      else
      (gR M 8 a0 15).bind fun x17 =>
      (ldI M 20 x17 v4).bind fun x19 =>
      (gR M 8 a0 1).bind fun x21 =>
      (ldI M 20 x21 a2).bind fun x23 =>
      if zle x23 x19 then
        f_Md_parted_L5 κ a0 a1 a2 n 0 (zadd v4 1) M
      else
      f_Md_parted_L5 κ a0 a1 a2 n 1 (zadd v4 1) M
    else
    f_Md_parted_L5 κ a0 a1 a2 n 1 (zadd v4 1) M
def f_Md_parted (a0 : Nat) (a1 : Int) (a2 : Int) (M : zHp) : Option (Int × zHp) :=
  if zk M a0 = 8 then
    f_Md_parted_L5 (fun v26 M27 =>
      if zbl v26 = true then some (v26, M27) else none) a0 a1 a2 zfu 0 0 M
  else none
def f_Md_isLowest_L4 (κ : Int → zHp → Option (Int × zHp)) (a0 : Nat) (a1 : Int) : Nat → Int → Int → zHp → Option (Int × zHp)
  | 0, _, _, _ => none
  | n + 1, v2, v3, M =>
    (gI M 8 a0 1).bind fun x1 =>
    if zle x1 v3 then
      κ v2 M
    else
    (gR M 8 a0 9).bind fun x4 =>
    (ldI M 21 x4 v3).bind fun x6 =>
    if zeq x6 0 then
      f_Md_isLowest_L4 κ a0 a1 n v2 (zadd v3 1) M
    else
    (gR M 8 a0 10).bind fun x9 =>
    (ldI M 21 x9 v3).bind fun x11 =>
    if zeq x11 0 then
      (gR M 8 a0 0).bind fun x14 =>
      (ldI M 20 x14 v3).bind fun x16 =>
      (gR M 8 a0 0).bind fun x18 =>
      (ldI M 20 x18 a1).bind fun x20 =>
      if zeq x16 x20 then
        (gR M 8 a0 1).bind fun x23 =>
        (ldI M 20 x23 v3).bind fun x25 =>
        (gR M 8 a0 1).bind fun x27 =>
        (ldI M 20 x27 a1).bind fun x29 =>
        if zle x29 x25 then
          f_Md_isLowest_L4 κ a0 a1 n v2 (zadd v3 1) M
        else
        f_Md_isLowest_L4 κ a0 a1 n 0 (zadd v3 1) M
      else
      f_Md_isLowest_L4 κ a0 a1 n v2 (zadd v3 1) M
    else
    f_Md_isLowest_L4 κ a0 a1 n v2 (zadd v3 1) M
def f_Md_isLowest (a0 : Nat) (a1 : Int) (M : zHp) : Option (Int × zHp) :=
  if zk M a0 = 8 then
    f_Md_isLowest_L4 (fun v32 M33 =>
      if zbl v32 = true then some (v32, M33) else none) a0 a1 zfu 1 0 M
  else none
def f_Md_sift_L2 (κ : zHp → Option (Int × zHp)) (a0 : Nat) : Nat → Int → zHp → Option (Int × zHp)
  | 0, _, _ => none
  | n + 1, v2, M =>
    (gI M 8 a0 1).bind fun x1 =>
    if zle x1 v2 then
      κ M
    else
    (gR M 8 a0 10).bind fun x4 =>
    (stZ M 21 x4 v2 0).bind fun M6 =>
    (gR M6 8 a0 9).bind fun x8 =>
    (ldI M6 21 x8 v2).bind fun x10 =>
    if zeq x10 0 then
      f_Md_sift_L2 κ a0 n (zadd v2 1) M6
    else
    zb2 (f_Md_above a0 v2 M6) fun x15 M14 =>
    (gR M14 8 a0 10).bind fun x16 =>
    if zlt x15 0 then
      (stZ M14 21 x16 v2 0).bind fun M19 =>
      f_Md_sift_L2 κ a0 n (zadd v2 1) M19
    else
    zb2 (f_Md_parted a0 v2 x15 M14) fun x23 M22 =>
    if zeq x23 0 then
      (stZ M22 21 x16 v2 1).bind fun M27 =>
      f_Md_sift_L2 κ a0 n (zadd v2 1) M27
    else
    (stZ M22 21 x16 v2 0).bind fun M25 =>
    f_Md_sift_L2 κ a0 n (zadd v2 1) M25
def f_Md_sift_L82 (κ : zHp → Option (Int × zHp)) (a0 : Nat) (a2 : Int) : Nat → Int → zHp → Option (Int × zHp)
  | 0, _, _ => none
  | n + 1, v3, M =>
    (gI M 8 a0 1).bind fun x34 =>
    if zle x34 v3 then
      κ M
    else
    (gR M 8 a0 9).bind fun x37 =>
    (ldI M 21 x37 v3).bind fun x39 =>
    if zeq x39 0 then
      f_Md_sift_L82 κ a0 a2 n (zadd v3 1) M
    else
    (gR M 8 a0 1).bind fun x42 =>
    (ldI M 20 x42 v3).bind fun x44 =>
    if zeq x44 a2 then
      (gR M 8 a0 10).bind fun x47 =>
      (ldI M 21 x47 v3).bind fun x49 =>
      if zeq x49 0 then
        zb2 (f_Md_gone a0 v3 M) fun x54 M53 =>
        if zeq x54 0 then
          f_Md_sift_L82 κ a0 a2 n (zadd v3 1) M53
        else
        zb2 (f_Md_isLowest a0 v3 M53) fun x58 M57 =>
        if zeq x58 0 then
          f_Md_sift_L82 κ a0 a2 n (zadd v3 1) M57
        else
        (gR M57 8 a0 10).bind fun x60 =>
        (stZ M57 21 x60 v3 1).bind fun M62 =>
        f_Md_sift_L82 κ a0 a2 n (zadd v3 1) M62
      else
      f_Md_sift_L82 κ a0 a2 n (zadd v3 1) M
    else
    f_Md_sift_L82 κ a0 a2 n (zadd v3 1) M
def f_Md_sift_L67 (κ : zHp → Option (Int × zHp)) (a0 : Nat) (a1 : Int) : Nat → Int → zHp → Option (Int × zHp)
  | 0, _, _ => none
  | n + 1, v2, M =>
    (gI M 8 a0 4).bind fun x30 =>
    if zlt x30 v2 then
      κ M
    else
    if zeq a1 2 then
      f_Md_sift_L82 (fun M64 =>
        f_Md_sift_L67 κ a0 a1 n (zadd v2 1) M64) a0 v2 zfu 0 M
    else
    κ M
def f_Md_sift_L157 (κ : Int → zHp → Option (Int × zHp)) (a0 : Nat) (a1 : Int) : Nat → Int → Int → zHp → Option (Int × zHp)
  | 0, _, _, _ => none
  | n + 1, v2, v3, M =>
    (gI M 8 a0 1).bind fun x66 =>
    if zle x66 v3 then
      κ v2 M
    else
    (gR M 8 a0 9).bind fun x69 =>
    (ldI M 21 x69 v3).bind fun x71 =>
    if zeq x71 0 then
      f_Md_sift_L157 κ a0 a1 n v2 (zadd v3 1) M
    else
    (gR M 8 a0 5).bind fun x74 =>
    (gR M 8 a0 10).bind fun x76 =>
    (ldI M 21 x76 v3).bind fun x78 =>
    if zeq x78 0 then
      (stI M 20 x74 v3 a1).bind fun M81 =>
      (gR M81 8 a0 10).bind fun x83 =>
      (ldI M81 21 x83 v3).bind fun x85 =>
      if zeq x85 0 then
        f_Md_sift_L157 κ a0 a1 n v2 (zadd v3 1) M81
      else
      f_Md_sift_L157 κ a0 a1 n (zadd v2 1) (zadd v3 1) M81
    else
    (stI M 20 x74 v3 9).bind fun M88 =>
    (gR M88 8 a0 10).bind fun x90 =>
    (ldI M88 21 x90 v3).bind fun x92 =>
    if zeq x92 0 then
      f_Md_sift_L157 κ a0 a1 n v2 (zadd v3 1) M88
    else
    f_Md_sift_L157 κ a0 a1 n (zadd v2 1) (zadd v3 1) M88
def f_Md_sift (a0 : Nat) (a1 : Int) (M : zHp) : Option (Int × zHp) :=
  if zk M a0 = 8 then
    f_Md_sift_L2 (fun M29 =>
      f_Md_sift_L67 (fun M65 =>
        f_Md_sift_L157 (fun v95 M96 =>
          some (v95, M96)) a0 a1 zfu 0 0 M65) a0 a1 zfu 1 M29) a0 zfu 0 M
  else none
def f_Md_choose_L2 (κ : zHp → Option (zHp)) (a0 : Nat) (a1 : Int) (a2 : Int) : Nat → Int → zHp → Option (zHp)
  | 0, _, _ => none
  | n + 1, v3, M =>
    (gI M 8 a0 1).bind fun x1 =>
    if zle x1 v3 then
      κ M
    else
    (gR M 8 a0 9).bind fun x4 =>
    (gR M 8 a0 5).bind fun x6 =>
    (ldI M 20 x6 v3).bind fun x8 =>
    if zeq x8 a1 then
      (stZ M 21 x4 v3 1).bind fun M11 =>
      f_Md_choose_L2 κ a0 a1 a2 n (zadd v3 1) M11
    else
    (gR M 8 a0 5).bind fun x13 =>
    (ldI M 20 x13 v3).bind fun x15 =>
    if zeq x15 a2 then
      (stZ M 21 x4 v3 1).bind fun M20 =>
      f_Md_choose_L2 κ a0 a1 a2 n (zadd v3 1) M20
    else
    (stZ M 21 x4 v3 0).bind fun M18 =>
    f_Md_choose_L2 κ a0 a1 a2 n (zadd v3 1) M18
def f_Md_choose (a0 : Nat) (a1 : Int) (a2 : Int) (M : zHp) : Option (zHp) :=
  if zk M a0 = 8 then
    f_Md_choose_L2 (fun M22 =>
      some M22) a0 a1 a2 zfu 0 M
  else none
def f_Md_mergeNext (a0 : Nat) (M : zHp) : Option (Int × zHp) :=
  if zk M a0 = 8 then
    (f_Md_choose a0 1 2 M).bind fun M2 =>
    zb2 (f_Md_sift a0 2 M2) fun x5 M4 =>
    some (x5, M4)
  else none
def f_Md_mergeOf (a0 : Nat) (a1 : Int) (M : zHp) : Option (Int × zHp) :=
  if zk M a0 = 8 then
    (f_Md_choose a0 a1 (zadd a1 1) M).bind fun M2 =>
    zb2 (f_Md_sift a0 (zadd a1 1) M2) fun x5 M4 =>
    if zeq a1 0 then
      (pI M4 8 a0 3 0).bind fun M21 =>
      if zeq a1 0 then
        zb2 (f_Md_size a0 1 M21) fun x28 M27 =>
        if zle x28 12 then
          (f_Md_arrange a0 M27).bind fun M31 =>
          some (x5, M31)
        else
        zb2 (f_Md_mergeNext a0 M27) fun x34 M33 =>
        (f_Md_arrange a0 M33).bind fun M36 =>
        some ((zadd x5 x34), M36)
      else
      (f_Md_arrange a0 M21).bind fun M25 =>
      some (x5, M25)
    else
    if zeq a1 0 then
      zb2 (f_Md_size a0 1 M4) fun x12 M11 =>
      if zle x12 12 then
        (f_Md_arrange a0 M11).bind fun M15 =>
        some (x5, M15)
      else
      zb2 (f_Md_mergeNext a0 M11) fun x18 M17 =>
      (f_Md_arrange a0 M17).bind fun M20 =>
      some ((zadd x5 x18), M20)
    else
    (f_Md_arrange a0 M4).bind fun M9 =>
    some (x5, M9)
  else none
def f_Md_flushAll_L57 (κ : zHp → Option (zHp)) (a0 : Nat) : Nat → Int → zHp → Option (zHp)
  | 0, _, _ => none
  | n + 1, v1, M =>
    (gI M 8 a0 1).bind fun x21 =>
    if zle x21 v1 then
      κ M
    else
    (gR M 8 a0 9).bind fun x24 =>
    (ldI M 21 x24 v1).bind fun x26 =>
    if zeq x26 0 then
      f_Md_flushAll_L57 κ a0 n (zadd v1 1) M
    else
    (gR M 8 a0 5).bind fun x29 =>
    (ldI M 20 x29 v1).bind fun x31 =>
    if zeq x31 0 then
      (gR M 8 a0 6).bind fun x34 =>
      (gI M 8 a0 2).bind fun x36 =>
      (stI M 20 x34 v1 x36).bind fun M38 =>
      f_Md_flushAll_L57 κ a0 n (zadd v1 1) M38
    else
    f_Md_flushAll_L57 κ a0 n (zadd v1 1) M
def f_Md_flushAll (a0 : Nat) (M : zHp) : Option (zHp) :=
  if zk M a0 = 8 then
    zb2 (f_Md_size a0 (-1) M) fun x3 M2 =>
    if zeq x3 0 then
      some M2
    else
    (gI M2 8 a0 3).bind fun x5 =>
    if zeq x5 4 then
      zb2 (f_Md_mergeOf a0 0 M2) fun x45 M44 =>
      (f_Md_choose a0 (-1) (-1) M44).bind fun M47 =>
      zb2 (f_Md_sift a0 0 M47) fun x50 M49 =>
      (gI M49 8 a0 2).bind fun x51 =>
      (pI M49 8 a0 2 (zadd x51 1)).bind fun M53 =>
      (gI M53 8 a0 3).bind fun x55 =>
      (pI M53 8 a0 3 (zadd x55 1)).bind fun M57 =>
      f_Md_flushAll_L57 (fun M59 =>
        (pI M59 8 a0 8 0).bind fun M60 =>
        some M60) a0 zfu 0 M57
    else
    (f_Md_choose a0 (-1) (-1) M2).bind fun M9 =>
    zb2 (f_Md_sift a0 0 M9) fun x12 M11 =>
    (gI M11 8 a0 2).bind fun x13 =>
    (pI M11 8 a0 2 (zadd x13 1)).bind fun M15 =>
    (gI M15 8 a0 3).bind fun x17 =>
    (pI M15 8 a0 3 (zadd x17 1)).bind fun M19 =>
    f_Md_flushAll_L57 (fun M40 =>
      (pI M40 8 a0 8 0).bind fun M41 =>
      some M41) a0 zfu 0 M19
  else none
def f_Md_needsHead (a0 : Nat) (a1 : Int) (M : zHp) : Option (Int × zHp) :=
  if zk M a0 = 8 then
    (gR M 8 a0 16).bind fun x1 =>
    (gI M 8 a0 7).bind fun x3 =>
    (ldI M 20 x1 (zrem x3 8)).bind fun x5 =>
    if zle (zadd (zadd x5 1) a1) 16 then
      some (0, M)
    else
    some (1, M)
  else none
def f_Md_record (a0 : Nat) (a1 : Int) (M : zHp) : Option (Int × zHp) :=
  if zk M a0 = 8 then
    zb2 (f_Md_needsHead a0 a1 M) fun x3 M2 =>
    if zeq x3 0 then
      (gR M2 8 a0 16).bind fun x5 =>
      (gI M2 8 a0 7).bind fun x7 =>
      (ldI M2 20 x5 (zrem x7 8)).bind fun x9 =>
      (gR M2 8 a0 16).bind fun x11 =>
      (gI M2 8 a0 7).bind fun x13 =>
      (stI M2 20 x11 (zrem x13 8) (zadd (zadd x9 1) a1)).bind fun M15 =>
      some ((zadd x9 1), M15)
    else
    (gI M2 8 a0 7).bind fun x17 =>
    (pI M2 8 a0 7 (zadd x17 1)).bind fun M19 =>
    (gR M19 8 a0 16).bind fun x21 =>
    (gI M19 8 a0 7).bind fun x23 =>
    (stI M19 20 x21 (zrem x23 8) 0).bind fun M25 =>
    (gR M25 8 a0 16).bind fun x27 =>
    (gI M25 8 a0 7).bind fun x29 =>
    (ldI M25 20 x27 (zrem x29 8)).bind fun x31 =>
    (gR M25 8 a0 16).bind fun x33 =>
    (gI M25 8 a0 7).bind fun x35 =>
    (stI M25 20 x33 (zrem x35 8) (zadd (zadd x31 1) a1)).bind fun M37 =>
    some ((zadd x31 1), M37)
  else none
def f_Md_isKey (a0 : Int) (M : zHp) : Option (Int × zHp) :=
  if zlt a0 0 then
    some (0, M)
  else
  if zle 32 a0 then
    some (0, M)
  else
  some (1, M)
def f_Md_add (a0 : Nat) (a1 : Int) (a2 : Int) (a3 : Int) (M : zHp) : Option (Int × zHp) :=
  if zk M a0 = 8 then
    (gI M 8 a0 5).bind fun x1 =>
    if zeq x1 6 then
      some ((-3), M)
    else
    (gR M 8 a0 11).bind fun x4 =>
    (gI M 8 a0 5).bind fun x6 =>
    (stI M 20 x4 x6 a1).bind fun M8 =>
    (gR M8 8 a0 12).bind fun x10 =>
    (gI M8 8 a0 5).bind fun x12 =>
    (stI M8 20 x10 x12 a2).bind fun M14 =>
    (gR M14 8 a0 13).bind fun x16 =>
    (gI M14 8 a0 5).bind fun x18 =>
    (stI M14 20 x16 x18 a3).bind fun M20 =>
    (gI M20 8 a0 5).bind fun x22 =>
    (pI M20 8 a0 5 (zadd x22 1)).bind fun M24 =>
    (gI M24 8 a0 5).bind fun x26 =>
    some (x26, M24)
  else none
def f_Md_put (a0 : Nat) (a1 : Int) (a2 : Int) (a3 : Int) (M : zHp) : Option (Int × zHp) :=
  if zk M a0 = 8 then
    zb2 (f_Md_isKey a1 M) fun x3 M2 =>
    if zeq x3 0 then
      some ((-1), M2)
    else
    if zlt a3 0 then
      some ((-1), M2)
    else
    if zle a3 1000 then
      zb2 (f_Md_add a0 a1 a2 a3 M2) fun x9 M8 =>
      some (x9, M8)
    else
    some ((-1), M2)
  else none
def f_Md_delete (a0 : Nat) (a1 : Int) (M : zHp) : Option (Int × zHp) :=
  if zk M a0 = 8 then
    zb2 (f_Md_isKey a1 M) fun x3 M2 =>
    if zeq x3 0 then
      some ((-1), M2)
    else
    zb2 (f_Md_add a0 a1 0 (-1) M2) fun x7 M6 =>
    some (x7, M6)
  else none
def f_Md_commit_L127 (κ : zHp → Option (Int × zHp)) (a0 : Nat) (a1 : Int) : Nat → Int → zHp → Option (Int × zHp)
  | 0, _, _ => none
  | n + 1, v2, M =>
    (gI M 8 a0 5).bind fun x52 =>
    if zle x52 v2 then
      κ M
    else
    (gI M 8 a0 4).bind fun x55 =>
    (pI M 8 a0 4 (zadd x55 1)).bind fun M57 =>
    (gI M57 8 a0 1).bind fun x59 =>
    (gI M57 8 a0 1).bind fun x61 =>
    (pI M57 8 a0 1 (zadd x61 1)).bind fun M63 =>
    (gR M63 8 a0 0).bind fun x65 =>
    (gR M63 8 a0 11).bind fun x67 =>
    (ldI M63 20 x67 v2).bind fun x69 =>
    (stI M63 20 x65 x59 x69).bind fun M71 =>
    (gR M71 8 a0 1).bind fun x73 =>
    (gI M71 8 a0 4).bind fun x75 =>
    (stI M71 20 x73 x59 x75).bind fun M77 =>
    (gR M77 8 a0 3).bind fun x79 =>
    (gR M77 8 a0 13).bind fun x81 =>
    (ldI M77 20 x81 v2).bind fun x83 =>
    if zle 0 x83 then
      (stZ M77 21 x79 x59 0).bind fun M86 =>
      (gR M86 8 a0 2).bind fun x88 =>
      (gR M86 8 a0 12).bind fun x90 =>
      (ldI M86 20 x90 v2).bind fun x92 =>
      (stI M86 20 x88 x59 x92).bind fun M94 =>
      (gR M94 8 a0 4).bind fun x96 =>
      (gR M94 8 a0 13).bind fun x98 =>
      (ldI M94 20 x98 v2).bind fun x100 =>
      if zle x100 0 then
        (stI M94 20 x96 x59 0).bind fun M103 =>
        (gR M103 8 a0 5).bind fun x105 =>
        (stI M103 20 x105 x59 (-1)).bind fun M107 =>
        (gR M107 8 a0 7).bind fun x109 =>
        (gI M107 8 a0 7).bind fun x111 =>
        (stI M107 20 x109 x59 x111).bind fun M113 =>
        (gR M113 8 a0 8).bind fun x115 =>
        (stI M113 20 x115 x59 (zadd a1 v2)).bind fun M117 =>
        f_Md_commit_L127 κ a0 a1 n (zadd v2 1) M117
      else
      (gI M94 8 a0 0).bind fun x119 =>
      (gR M94 8 a0 13).bind fun x121 =>
      (ldI M94 20 x121 v2).bind fun x123 =>
      (stI M94 20 x96 x59 (zadd x119 x123)).bind fun M125 =>
      (gR M125 8 a0 5).bind fun x127 =>
      (stI M125 20 x127 x59 (-1)).bind fun M129 =>
      (gR M129 8 a0 7).bind fun x131 =>
      (gI M129 8 a0 7).bind fun x133 =>
      (stI M129 20 x131 x59 x133).bind fun M135 =>
      (gR M135 8 a0 8).bind fun x137 =>
      (stI M135 20 x137 x59 (zadd a1 v2)).bind fun M139 =>
      f_Md_commit_L127 κ a0 a1 n (zadd v2 1) M139
    else
    (stZ M77 21 x79 x59 1).bind fun M141 =>
    (gR M141 8 a0 2).bind fun x143 =>
    (gR M141 8 a0 12).bind fun x145 =>
    (ldI M141 20 x145 v2).bind fun x147 =>
    (stI M141 20 x143 x59 x147).bind fun M149 =>
    (gR M149 8 a0 4).bind fun x151 =>
    (gR M149 8 a0 13).bind fun x153 =>
    (ldI M149 20 x153 v2).bind fun x155 =>
    if zle x155 0 then
      (stI M149 20 x151 x59 0).bind fun M158 =>
      (gR M158 8 a0 5).bind fun x160 =>
      (stI M158 20 x160 x59 (-1)).bind fun M162 =>
      (gR M162 8 a0 7).bind fun x164 =>
      (gI M162 8 a0 7).bind fun x166 =>
      (stI M162 20 x164 x59 x166).bind fun M168 =>
      (gR M168 8 a0 8).bind fun x170 =>
      (stI M168 20 x170 x59 (zadd a1 v2)).bind fun M172 =>
      f_Md_commit_L127 κ a0 a1 n (zadd v2 1) M172
    else
    (gI M149 8 a0 0).bind fun x174 =>
    (gR M149 8 a0 13).bind fun x176 =>
    (ldI M149 20 x176 v2).bind fun x178 =>
    (stI M149 20 x151 x59 (zadd x174 x178)).bind fun M180 =>
    (gR M180 8 a0 5).bind fun x182 =>
    (stI M180 20 x182 x59 (-1)).bind fun M184 =>
    (gR M184 8 a0 7).bind fun x186 =>
    (gI M184 8 a0 7).bind fun x188 =>
    (stI M184 20 x186 x59 x188).bind fun M190 =>
    (gR M190 8 a0 8).bind fun x192 =>
    (stI M190 20 x192 x59 (zadd a1 v2)).bind fun M194 =>
    f_Md_commit_L127 κ a0 a1 n (zadd v2 1) M194
def f_Md_commit (a0 : Nat) (M : zHp) : Option (Int × zHp) :=
  if zk M a0 = 8 then
    (gI M 8 a0 5).bind fun x1 =>
    if zeq x1 0 then
      some ((-2), M)
    else
    (gI M 8 a0 5).bind fun x4 =>
    zb2 (f_Md_needsHead a0 x4 M) fun x8 M7 =>
    if zeq x8 0 then
      zb2 (f_Md_size a0 (-1) M7) fun x12 M11 =>
      (gI M11 8 a0 5).bind fun x13 =>
      if zle (zadd x12 x13) 8 then
        (gR M11 8 a0 19).bind fun x16 =>
        (gI M11 8 a0 8).bind fun x18 =>
        (gI M11 8 a0 5).bind fun x20 =>
        zb2 (f_Md_needsHead a0 x20 M11) fun x24 M23 =>
        (stZ M23 21 x16 x18 x24).bind fun M25 =>
        (gR M25 8 a0 17).bind fun x27 =>
        (gI M25 8 a0 8).bind fun x29 =>
        (gI M25 8 a0 4).bind fun x31 =>
        (stI M25 20 x27 x29 (zadd x31 1)).bind fun M33 =>
        (gR M33 8 a0 18).bind fun x35 =>
        (gI M33 8 a0 8).bind fun x37 =>
        (gI M33 8 a0 5).bind fun x39 =>
        (stI M33 20 x35 x37 (zadd 1 x39)).bind fun M41 =>
        (gI M41 8 a0 8).bind fun x43 =>
        (pI M41 8 a0 8 (zadd x43 1)).bind fun M45 =>
        (gI M45 8 a0 5).bind fun x47 =>
        zb2 (f_Md_record a0 x47 M45) fun x51 M50 =>
        f_Md_commit_L127 (fun M196 =>
          (gI M196 8 a0 5).bind fun x197 =>
          (pI M196 8 a0 5 0).bind fun M199 =>
          some (x197, M199)) a0 x51 zfu 0 M50
      else
      (f_Md_flushAll a0 M11).bind fun M202 =>
      (gR M202 8 a0 19).bind fun x203 =>
      (gI M202 8 a0 8).bind fun x205 =>
      (gI M202 8 a0 5).bind fun x207 =>
      zb2 (f_Md_needsHead a0 x207 M202) fun x211 M210 =>
      (stZ M210 21 x203 x205 x211).bind fun M212 =>
      (gR M212 8 a0 17).bind fun x214 =>
      (gI M212 8 a0 8).bind fun x216 =>
      (gI M212 8 a0 4).bind fun x218 =>
      (stI M212 20 x214 x216 (zadd x218 1)).bind fun M220 =>
      (gR M220 8 a0 18).bind fun x222 =>
      (gI M220 8 a0 8).bind fun x224 =>
      (gI M220 8 a0 5).bind fun x226 =>
      (stI M220 20 x222 x224 (zadd 1 x226)).bind fun M228 =>
      (gI M228 8 a0 8).bind fun x230 =>
      (pI M228 8 a0 8 (zadd x230 1)).bind fun M232 =>
      (gI M232 8 a0 5).bind fun x234 =>
      zb2 (f_Md_record a0 x234 M232) fun x238 M237 =>
      f_Md_commit_L127 (fun M239 =>
        (gI M239 8 a0 5).bind fun x240 =>
        (pI M239 8 a0 5 0).bind fun M242 =>
        some (x240, M242)) a0 x238 zfu 0 M237
    else
    (gI M7 8 a0 7).bind fun x244 =>
    (gI M7 8 a0 6).bind fun x246 =>
    if zlt (zadd (zsub x244 x246) 1) 8 then
      zb2 (f_Md_size a0 (-1) M7) fun x251 M250 =>
      (gI M250 8 a0 5).bind fun x252 =>
      if zle (zadd x251 x252) 8 then
        (gR M250 8 a0 19).bind fun x255 =>
        (gI M250 8 a0 8).bind fun x257 =>
        (gI M250 8 a0 5).bind fun x259 =>
        zb2 (f_Md_needsHead a0 x259 M250) fun x263 M262 =>
        (stZ M262 21 x255 x257 x263).bind fun M264 =>
        (gR M264 8 a0 17).bind fun x266 =>
        (gI M264 8 a0 8).bind fun x268 =>
        (gI M264 8 a0 4).bind fun x270 =>
        (stI M264 20 x266 x268 (zadd x270 1)).bind fun M272 =>
        (gR M272 8 a0 18).bind fun x274 =>
        (gI M272 8 a0 8).bind fun x276 =>
        (gI M272 8 a0 5).bind fun x278 =>
        (stI M272 20 x274 x276 (zadd 1 x278)).bind fun M280 =>
        (gI M280 8 a0 8).bind fun x282 =>
        (pI M280 8 a0 8 (zadd x282 1)).bind fun M284 =>
        (gI M284 8 a0 5).bind fun x286 =>
        zb2 (f_Md_record a0 x286 M284) fun x290 M289 =>
        f_Md_commit_L127 (fun M291 =>
          (gI M291 8 a0 5).bind fun x292 =>
          (pI M291 8 a0 5 0).bind fun M294 =>
          some (x292, M294)) a0 x290 zfu 0 M289
      else
      (f_Md_flushAll a0 M250).bind fun M297 =>
      (gR M297 8 a0 19).bind fun x298 =>
      (gI M297 8 a0 8).bind fun x300 =>
      (gI M297 8 a0 5).bind fun x302 =>
      zb2 (f_Md_needsHead a0 x302 M297) fun x306 M305 =>
      (stZ M305 21 x298 x300 x306).bind fun M307 =>
      (gR M307 8 a0 17).bind fun x309 =>
      (gI M307 8 a0 8).bind fun x311 =>
      (gI M307 8 a0 4).bind fun x313 =>
      (stI M307 20 x309 x311 (zadd x313 1)).bind fun M315 =>
      (gR M315 8 a0 18).bind fun x317 =>
      (gI M315 8 a0 8).bind fun x319 =>
      (gI M315 8 a0 5).bind fun x321 =>
      (stI M315 20 x317 x319 (zadd 1 x321)).bind fun M323 =>
      (gI M323 8 a0 8).bind fun x325 =>
      (pI M323 8 a0 8 (zadd x325 1)).bind fun M327 =>
      (gI M327 8 a0 5).bind fun x329 =>
      zb2 (f_Md_record a0 x329 M327) fun x333 M332 =>
      f_Md_commit_L127 (fun M334 =>
        (gI M334 8 a0 5).bind fun x335 =>
        (pI M334 8 a0 5 0).bind fun M337 =>
        some (x335, M337)) a0 x333 zfu 0 M332
    else
    some ((-3), M7)
  else none
def f_Md_sync (a0 : Nat) (M : zHp) : Option (Int × zHp) :=
  if zk M a0 = 8 then
    (gI M 8 a0 8).bind fun x1 =>
    (pI M 8 a0 8 0).bind fun M3 =>
    some (x1, M3)
  else none
def f_Md_flush (a0 : Nat) (M : zHp) : Option (Int × zHp) :=
  if zk M a0 = 8 then
    zb2 (f_Md_size a0 (-1) M) fun x3 M2 =>
    (f_Md_flushAll a0 M2).bind fun M5 =>
    some (x3, M5)
  else none
def f_Md_merge (a0 : Nat) (a1 : Int) (M : zHp) : Option (Int × zHp) :=
  if zk M a0 = 8 then
    if zlt a1 0 then
      some ((-1), M)
    else
    if zle a1 1 then
      zb2 (f_Md_size a0 a1 M) fun x5 M4 =>
      if zeq x5 0 then
        some ((-2), M4)
      else
      zb2 (f_Md_mergeOf a0 a1 M4) fun x9 M8 =>
      some (x9, M8)
    else
    some ((-1), M)
  else none
def f_Md_isLive (a0 : Nat) (a1 : Int) (a2 : Int) (M : zHp) : Option (Int × zHp) :=
  if zk M a0 = 8 then
    (gR M 8 a0 5).bind fun x1 =>
    (ldI M 20 x1 a1).bind fun x3 =>
    if zeq x3 9 then
      some (0, M)
    else
    (gR M 8 a0 3).bind fun x6 =>
    (ldI M 21 x6 a1).bind fun x8 =>
    if zeq x8 0 then
      (gR M 8 a0 7).bind fun x11 =>
      (ldI M 20 x11 a1).bind fun x13 =>
      if zeq x13 a2 then
        some (1, M)
      else
      some (0, M)
    else
    some (0, M)
  else none
def f_Md_liveIn_L4 (κ : Int → zHp → Option (Int × zHp)) (a0 : Nat) (a1 : Int) : Nat → Int → Int → zHp → Option (Int × zHp)
  | 0, _, _, _ => none
  | n + 1, v2, v3, M =>
    (gI M 8 a0 1).bind fun x1 =>
    if zle x1 v3 then
      κ v2 M
    else
    zb2 (f_Md_isLive a0 v3 a1 M) fun x6 M5 =>
    if zeq x6 0 then
      f_Md_liveIn_L4 κ a0 a1 n v2 (zadd v3 1) M5
    else
    f_Md_liveIn_L4 κ a0 a1 n (zadd v2 1) (zadd v3 1) M5
def f_Md_liveIn (a0 : Nat) (a1 : Int) (M : zHp) : Option (Int × zHp) :=
  if zk M a0 = 8 then
    f_Md_liveIn_L4 (fun v8 M9 =>
      some (v8, M9)) a0 a1 zfu 0 0 M
  else none
def f_Md_nextLive_L4 (κ : Int → zHp → Option (Int × zHp)) (a0 : Nat) : Nat → Int → Int → zHp → Option (Int × zHp)
  | 0, _, _, _ => none
  | n + 1, v1, v2, M =>
    (gI M 8 a0 1).bind fun x1 =>
    if zle x1 v2 then
      κ v1 M
    else
    (gI M 8 a0 6).bind fun x4 =>
    zb2 (f_Md_isLive a0 v2 x4 M) fun x8 M7 =>
    if zeq x8 0 then
      f_Md_nextLive_L4 κ a0 n v1 (zadd v2 1) M7
    else
    if zlt v1 0 then
      f_Md_nextLive_L4 κ a0 n v2 (zadd v2 1) M7
    else
    (gR M7 8 a0 8).bind fun x11 =>
    (ldI M7 20 x11 v2).bind fun x13 =>
    (gR M7 8 a0 8).bind fun x15 =>
    (ldI M7 20 x15 v1).bind fun x17 =>
    if zle x17 x13 then
      f_Md_nextLive_L4 κ a0 n v1 (zadd v2 1) M7
    else
    f_Md_nextLive_L4 κ a0 n v2 (zadd v2 1) M7
def f_Md_nextLive (a0 : Nat) (M : zHp) : Option (Int × zHp) :=
  if zk M a0 = 8 then
    f_Md_nextLive_L4 (fun v20 M21 =>
      some (v20, M21)) a0 zfu (-1) 0 M
  else none
def f_Md_headsFor_L18 (κ : Int → zHp → Option (Int × zHp)) : Nat → Int → Int → Int → zHp → Option (Int × zHp)
  | 0, _, _, _, _ => none
  | n + 1, v2, v3, v4, M =>
    if zle v4 0 then
      κ v2 M
    else
    if zle 6 v4 then
      if zle (zadd v3 (zadd 1 6)) 16 then
        f_Md_headsFor_L18 κ n v2 (zadd v3 (zadd 1 6)) (zsub v4 6) M
      else
      f_Md_headsFor_L18 κ n (zadd v2 1) (zadd 0 (zadd 1 6)) (zsub v4 6) M
    else
    if zle (zadd v3 (zadd 1 v4)) 16 then
      f_Md_headsFor_L18 κ n v2 (zadd v3 (zadd 1 v4)) (zsub v4 6) M
    else
    f_Md_headsFor_L18 κ n (zadd v2 1) (zadd 0 (zadd 1 v4)) (zsub v4 6) M
def f_Md_headsFor (a0 : Nat) (a1 : Int) (M : zHp) : Option (Int × zHp) :=
  if zk M a0 = 8 then
    (gR M 8 a0 16).bind fun x1 =>
    (gI M 8 a0 7).bind fun x3 =>
    (ldI M 20 x1 (zrem x3 8)).bind fun x5 =>
    f_Md_headsFor_L18 (fun v11 M12 =>
      some (v11, M12))  zfu 0 x5 a1 M
  else none
def f_Md_collect_L81 (κ : zHp → Option (Int × zHp)) (a0 : Nat) (a3 : Int) (a4 : Int) : Nat → Int → zHp → Option (Int × zHp)
  | 0, _, _ => none
  | n + 1, v5, M =>
    if zle a3 v5 then
      κ M
    else
    zb2 (f_Md_nextLive a0 M) fun x29 M28 =>
    (gR M28 8 a0 7).bind fun x30 =>
    (gI M28 8 a0 7).bind fun x32 =>
    (stI M28 20 x30 x29 x32).bind fun M34 =>
    (gR M34 8 a0 8).bind fun x36 =>
    (stI M34 20 x36 x29 (zadd a4 v5)).bind fun M38 =>
    f_Md_collect_L81 κ a0 a3 a4 n (zadd v5 1) M38
def f_Md_collect_L54 (κ : zHp → Option (Int × zHp)) (a0 : Nat) : Nat → Int → zHp → Option (Int × zHp)
  | 0, _, _ => none
  | n + 1, v2, M =>
    if zle v2 0 then
      κ M
    else
    if zle 6 v2 then
      zb2 (f_Md_record a0 6 M) fun x25 M24 =>
      f_Md_collect_L81 (fun M40 =>
        f_Md_collect_L54 κ a0 n (zsub v2 6) M40) a0 6 x25 zfu 0 M24
    else
    zb2 (f_Md_record a0 v2 M) fun x43 M42 =>
    f_Md_collect_L81 (fun M44 =>
      f_Md_collect_L54 κ a0 n (zsub v2 6) M44) a0 v2 x43 zfu 0 M42
def f_Md_collect (a0 : Nat) (M : zHp) : Option (Int × zHp) :=
  if zk M a0 = 8 then
    (gI M 8 a0 6).bind fun x1 =>
    (gI M 8 a0 7).bind fun x3 =>
    if zeq x1 x3 then
      some ((-2), M)
    else
    (f_Md_flushAll a0 M).bind fun M7 =>
    (gI M7 8 a0 6).bind fun x8 =>
    zb2 (f_Md_liveIn a0 x8 M7) fun x12 M11 =>
    (gI M11 8 a0 7).bind fun x13 =>
    (gI M11 8 a0 6).bind fun x15 =>
    zb2 (f_Md_headsFor a0 x12 M11) fun x19 M18 =>
    if zle (zadd (zadd (zsub x13 x15) 1) x19) 8 then
      f_Md_collect_L54 (fun M45 =>
        (pI M45 8 a0 8 0).bind fun M46 =>
        (gI M46 8 a0 6).bind fun x48 =>
        (pI M46 8 a0 6 (zadd x48 1)).bind fun M50 =>
        some (x12, M50)) a0 zfu x12 M18
    else
    some ((-3), M18)
  else none
def f_Md_take_L2 (κ : zHp → Option (Int × zHp)) (a0 : Nat) : Nat → Int → zHp → Option (Int × zHp)
  | 0, _, _ => none
  | n + 1, v1, M =>
    if zle 3 v1 then
      κ M
    else
    (gR M 8 a0 14).bind fun x2 =>
    (ldI M 21 x2 v1).bind fun x4 =>
    if zeq x4 0 then
      (gR M 8 a0 14).bind fun x7 =>
      (stZ M 21 x7 v1 1).bind fun M9 =>
      (gR M9 8 a0 15).bind fun x11 =>
      (gI M9 8 a0 4).bind fun x13 =>
      (stI M9 20 x11 v1 x13).bind fun M15 =>
      some (v1, M15)
    else
    f_Md_take_L2 κ a0 n (zadd v1 1) M
def f_Md_take (a0 : Nat) (M : zHp) : Option (Int × zHp) :=
  if zk M a0 = 8 then
    f_Md_take_L2 (fun M17 =>
      some ((-3), M17)) a0 zfu 0 M
  else none
def f_Md_release (a0 : Nat) (a1 : Int) (M : zHp) : Option (Int × zHp) :=
  if zk M a0 = 8 then
    if zlt a1 0 then
      some (0, M)
    else
    if zle a1 2 then
      (gR M 8 a0 14).bind fun x3 =>
      (ldI M 21 x3 a1).bind fun x5 =>
      (gR M 8 a0 14).bind fun x7 =>
      (stZ M 21 x7 a1 0).bind fun M9 =>
      if zbl x5 = true then some (x5, M9) else none
    else
    some (0, M)
  else none
def f_Md_tick (a0 : Nat) (a1 : Int) (M : zHp) : Option (Int × zHp) :=
  if zk M a0 = 8 then
    if zlt a1 0 then
      some ((-1), M)
    else
    if zle a1 1000 then
      (gI M 8 a0 0).bind fun x3 =>
      (pI M 8 a0 0 (zadd x3 a1)).bind fun M5 =>
      (gI M5 8 a0 0).bind fun x7 =>
      some (x7, M5)
    else
    some ((-1), M)
  else none
def f_Md_crash_L40 (κ : zHp → Option (Int × zHp)) (a0 : Nat) (a2 : Int) : Nat → Int → zHp → Option (Int × zHp)
  | 0, _, _ => none
  | n + 1, v4, M =>
    if zlt v4 a2 then
      κ M
    else
    (gR M 8 a0 19).bind fun x10 =>
    (ldI M 21 x10 v4).bind fun x12 =>
    if zeq x12 0 then
      (gR M 8 a0 16).bind fun x15 =>
      (gI M 8 a0 7).bind fun x17 =>
      (gR M 8 a0 16).bind fun x19 =>
      (gI M 8 a0 7).bind fun x21 =>
      (ldI M 20 x19 (zrem x21 8)).bind fun x23 =>
      (gR M 8 a0 18).bind fun x25 =>
      (ldI M 20 x25 v4).bind fun x27 =>
      (stI M 20 x15 (zrem x17 8) (zsub x23 x27)).bind fun M29 =>
      (gR M29 8 a0 17).bind fun x31 =>
      (ldI M29 20 x31 v4).bind fun x33 =>
      (pI M29 8 a0 4 (zsub x33 1)).bind fun M35 =>
      f_Md_crash_L40 κ a0 a2 n (zadd v4 (-1)) M35
    else
    (gI M 8 a0 7).bind fun x37 =>
    (pI M 8 a0 7 (zsub x37 1)).bind fun M39 =>
    (gR M39 8 a0 17).bind fun x41 =>
    (ldI M39 20 x41 v4).bind fun x43 =>
    (pI M39 8 a0 4 (zsub x43 1)).bind fun M45 =>
    f_Md_crash_L40 κ a0 a2 n (zadd v4 (-1)) M45
def f_Md_crash_L123 (κ : zHp → Option (Int × zHp)) (a0 : Nat) : Nat → Int → zHp → Option (Int × zHp)
  | 0, _, _ => none
  | n + 1, v4, M =>
    (gI M 8 a0 1).bind fun x48 =>
    if zle x48 v4 then
      κ M
    else
    (gR M 8 a0 5).bind fun x51 =>
    (ldI M 20 x51 v4).bind fun x53 =>
    if zeq x53 (-1) then
      (gR M 8 a0 1).bind fun x56 =>
      (ldI M 20 x56 v4).bind fun x58 =>
      (gI M 8 a0 4).bind fun x60 =>
      if zle x58 x60 then
        f_Md_crash_L123 κ a0 n (zadd v4 1) M
      else
      (gR M 8 a0 5).bind fun x63 =>
      (stI M 20 x63 v4 9).bind fun M65 =>
      f_Md_crash_L123 κ a0 n (zadd v4 1) M65
    else
    f_Md_crash_L123 κ a0 n (zadd v4 1) M
def f_Md_crash_L185 (κ : zHp → Option (Int × zHp)) (a0 : Nat) : Nat → Int → zHp → Option (Int × zHp)
  | 0, _, _ => none
  | n + 1, v4, M =>
    if zle 3 v4 then
      κ M
    else
    (gR M 8 a0 14).bind fun x73 =>
    (stZ M 21 x73 v4 0).bind fun M75 =>
    f_Md_crash_L185 κ a0 n (zadd v4 1) M75
def f_Md_crash (a0 : Nat) (a1 : Int) (M : zHp) : Option (Int × zHp) :=
  if zk M a0 = 8 then
    if zle 0 a1 then
      (gI M 8 a0 8).bind fun x2 =>
      if zle a1 x2 then
        (gI M 8 a0 8).bind fun x5 =>
        (gI M 8 a0 8).bind fun x7 =>
        f_Md_crash_L40 (fun M47 =>
          f_Md_crash_L123 (fun M67 =>
            (pI M67 8 a0 8 0).bind fun M68 =>
            (pI M68 8 a0 5 0).bind fun M70 =>
            f_Md_crash_L185 (fun M77 =>
              some ((zsub x5 a1), M77)) a0 zfu 0 M70) a0 zfu 0 M47) a0 a1 zfu (zsub x7 1) M
      else
      (gI M 8 a0 8).bind fun x78 =>
      (gI M 8 a0 8).bind fun x80 =>
      (gI M 8 a0 8).bind fun x82 =>
      f_Md_crash_L40 (fun M84 =>
        f_Md_crash_L123 (fun M85 =>
          (pI M85 8 a0 8 0).bind fun M86 =>
          (pI M86 8 a0 5 0).bind fun M88 =>
          f_Md_crash_L185 (fun M90 =>
            some ((zsub x80 x78), M90)) a0 zfu 0 M88) a0 zfu 0 M84) a0 x78 zfu (zsub x82 1) M
    else
    (gI M 8 a0 8).bind fun x91 =>
    (gI M 8 a0 8).bind fun x93 =>
    f_Md_crash_L40 (fun M95 =>
      f_Md_crash_L123 (fun M96 =>
        (pI M96 8 a0 8 0).bind fun M97 =>
        (pI M97 8 a0 5 0).bind fun M99 =>
        f_Md_crash_L185 (fun M101 =>
          some ((zsub x91 0), M101)) a0 zfu 0 M99) a0 zfu 0 M95) a0 0 zfu (zsub x93 1) M
  else none
def f_Md_isView (a0 : Nat) (a1 : Int) (M : zHp) : Option (Int × zHp) :=
  if zk M a0 = 8 then
    if zeq a1 (-1) then
      some (1, M)
    else
    if zlt a1 0 then
      some (0, M)
    else
    if zle 3 a1 then
      some (0, M)
    else
    (gR M 8 a0 14).bind fun x4 =>
    (ldI M 21 x4 a1).bind fun x6 =>
    if zeq x6 0 then
      some (0, M)
    else
    some (1, M)
  else none
def f_Md_isSeen (a0 : Nat) (a1 : Int) (a2 : Int) (M : zHp) : Option (Int × zHp) :=
  if zk M a0 = 8 then
    if zlt a2 0 then
      some (1, M)
    else
    (gR M 8 a0 1).bind fun x2 =>
    (ldI M 20 x2 a1).bind fun x4 =>
    (gR M 8 a0 15).bind fun x6 =>
    (ldI M 20 x6 a2).bind fun x8 =>
    if zlt x8 x4 then
      some (0, M)
    else
    some (1, M)
  else none
def f_Md_tableOf (a0 : Nat) (a1 : Int) (M : zHp) : Option (Int × zHp) :=
  if zk M a0 = 8 then
    (gR M 8 a0 5).bind fun x1 =>
    (ldI M 20 x1 a1).bind fun x3 =>
    if zeq x3 0 then
      (gI M 8 a0 2).bind fun x10 =>
      (gR M 8 a0 6).bind fun x12 =>
      (ldI M 20 x12 a1).bind fun x14 =>
      some ((zsub x10 x14), M)
    else
    (gR M 8 a0 6).bind fun x6 =>
    (ldI M 20 x6 a1).bind fun x8 =>
    some ((zdiv x8 6), M)
  else none
def f_Md_tables (a0 : Nat) (a1 : Int) (M : zHp) : Option (Int × zHp) :=
  if zk M a0 = 8 then
    if zeq a1 0 then
      (gI M 8 a0 3).bind fun x5 =>
      some (x5, M)
    else
    zb2 (f_Md_size a0 a1 M) fun x4 M3 =>
    some ((zdiv (zadd x4 5) 6), M3)
  else none
def f_Md_lies (a0 : Nat) (a1 : Int) (a2 : Int) (a3 : Int) (M : zHp) : Option (Int × zHp) :=
  if zk M a0 = 8 then
    (gR M 8 a0 5).bind fun x1 =>
    (ldI M 20 x1 a1).bind fun x3 =>
    if zeq x3 a2 then
      if zeq a2 (-1) then
        some (1, M)
      else
      zb2 (f_Md_tableOf a0 a1 M) fun x9 M8 =>
      if zeq x9 a3 then
        some (1, M8)
      else
      some (0, M8)
    else
    some (0, M)
  else none
def f_Md_latest_L6 (κ : Int → zHp → Option (Int × zHp)) (a0 : Nat) (a1 : Int) (a2 : Int) (a3 : Int) (a4 : Int) : Nat → Int → Int → zHp → Option (Int × zHp)
  | 0, _, _, _ => none
  | n + 1, v5, v6, M =>
    (gI M 8 a0 1).bind fun x1 =>
    if zle x1 v6 then
      κ v5 M
    else
    zb2 (f_Md_lies a0 v6 a1 a2 M) fun x6 M5 =>
    if zeq x6 0 then
      f_Md_latest_L6 κ a0 a1 a2 a3 a4 n v5 (zadd v6 1) M5
    else
    (gR M5 8 a0 0).bind fun x9 =>
    (ldI M5 20 x9 v6).bind fun x11 =>
    if zeq x11 a4 then
      zb2 (f_Md_isSeen a0 v6 a3 M5) fun x17 M16 =>
      if zeq x17 0 then
        f_Md_latest_L6 κ a0 a1 a2 a3 a4 n v5 (zadd v6 1) M16
      else
      if zlt v5 0 then
        f_Md_latest_L6 κ a0 a1 a2 a3 a4 n v6 (zadd v6 1) M16
      else
      (gR M16 8 a0 1).bind fun x22 =>
      (ldI M16 20 x22 v6).bind fun x24 =>
      (gR M16 8 a0 1).bind fun x26 =>
      (ldI M16 20 x26 v5).bind fun x28 =>
      if zle x24 x28 then
        f_Md_latest_L6 κ a0 a1 a2 a3 a4 n v5 (zadd v6 1) M16
      else
      f_Md_latest_L6 κ a0 a1 a2 a3 a4 n v6 (zadd v6 1) M16
    else
    f_Md_latest_L6 κ a0 a1 a2 a3 a4 n v5 (zadd v6 1) M5
def f_Md_latest (a0 : Nat) (a1 : Int) (a2 : Int) (a3 : Int) (a4 : Int) (M : zHp) : Option (Int × zHp) :=
  if zk M a0 = 8 then
    f_Md_latest_L6 (fun v31 M32 =>
      some (v31, M32)) a0 a1 a2 a3 a4 zfu (-1) 0 M
  else none
def f_Md_filter_L5 (κ : Int → zHp → Option (Int × zHp)) (a0 : Nat) (a1 : Int) (a2 : Int) : Nat → Int → Int → zHp → Option (Int × zHp)
  | 0, _, _, _ => none
  | n + 1, v3, v4, M =>
    (gI M 8 a0 1).bind fun x1 =>
    if zle x1 v4 then
      κ v3 M
    else
    zb2 (f_Md_lies a0 v4 a1 a2 M) fun x6 M5 =>
    if zeq x6 0 then
      f_Md_filter_L5 κ a0 a1 a2 n v3 (zadd v4 1) M5
    else
    (gR M5 8 a0 0).bind fun x8 =>
    (ldI M5 20 x8 v4).bind fun x10 =>
    (gR M5 8 a0 0).bind fun x12 =>
    (ldI M5 20 x12 v4).bind fun x14 =>
    f_Md_filter_L5 κ a0 a1 a2 n (zor (zor v3 (zshl 1 (zrem (zadd (zmul 5 x10) 1) 32))) (zshl 1 (zrem (zadd (zmul 11 x14) 7) 32))) (zadd v4 1) M5
def f_Md_filter (a0 : Nat) (a1 : Int) (a2 : Int) (M : zHp) : Option (Int × zHp) :=
  if zk M a0 = 8 then
    f_Md_filter_L5 (fun v16 M17 =>
      some (v16, M17)) a0 a1 a2 zfu 0 0 M
  else none
def f_Md_bound_L6 (κ : Int → zHp → Option (Int × zHp)) (a0 : Nat) (a1 : Int) (a2 : Int) (a3 : Int) : Nat → Int → Int → zHp → Option (Int × zHp)
  | 0, _, _, _ => none
  | n + 1, v4, v5, M =>
    (gI M 8 a0 1).bind fun x1 =>
    if zle x1 v5 then
      κ v4 M
    else
    zb2 (f_Md_lies a0 v5 a1 a2 M) fun x6 M5 =>
    if zeq x6 0 then
      f_Md_bound_L6 κ a0 a1 a2 a3 n v4 (zadd v5 1) M5
    else
    if zlt v4 0 then
      (gR M5 8 a0 0).bind fun x9 =>
      (ldI M5 20 x9 v5).bind fun x11 =>
      f_Md_bound_L6 κ a0 a1 a2 a3 n x11 (zadd v5 1) M5
    else
    if zeq a3 0 then
      (gR M5 8 a0 0).bind fun x14 =>
      (ldI M5 20 x14 v5).bind fun x16 =>
      if zle v4 x16 then
        f_Md_bound_L6 κ a0 a1 a2 a3 n v4 (zadd v5 1) M5
      else
      (gR M5 8 a0 0).bind fun x19 =>
      (ldI M5 20 x19 v5).bind fun x21 =>
      f_Md_bound_L6 κ a0 a1 a2 a3 n x21 (zadd v5 1) M5
    else
    (gR M5 8 a0 0).bind fun x23 =>
    (ldI M5 20 x23 v5).bind fun x25 =>
    if zle x25 v4 then
      f_Md_bound_L6 κ a0 a1 a2 a3 n v4 (zadd v5 1) M5
    else
    (gR M5 8 a0 0).bind fun x28 =>
    (ldI M5 20 x28 v5).bind fun x30 =>
    f_Md_bound_L6 κ a0 a1 a2 a3 n x30 (zadd v5 1) M5
def f_Md_bound (a0 : Nat) (a1 : Int) (a2 : Int) (a3 : Int) (M : zHp) : Option (Int × zHp) :=
  if zk M a0 = 8 then
    f_Md_bound_L6 (fun v32 M33 =>
      some (v32, M33)) a0 a1 a2 a3 zfu (-1) 0 M
  else none
def f_Md_may (a0 : Nat) (a1 : Int) (a2 : Int) (a3 : Int) (M : zHp) : Option (Int × zHp) :=
  if zk M a0 = 8 then
    zb2 (f_Md_filter a0 a1 a2 M) fun x3 M2 =>
    if zeq (zand (zshr x3 (zrem (zadd (zmul 5 a3) 1) 32)) 1) 1 then
      if zeq (zand (zshr x3 (zrem (zadd (zmul 11 a3) 7) 32)) 1) 1 then
        zb2 (f_Md_bound a0 a1 a2 0 M2) fun x11 M10 =>
        if zlt a3 x11 then
          some (0, M10)
        else
        zb2 (f_Md_bound a0 a1 a2 1 M10) fun x15 M14 =>
        if zlt x15 a3 then
          some (0, M14)
        else
        some (1, M14)
      else
      some (0, M2)
    else
    some (0, M2)
  else none
def f_Md_find_L26 (κ : Int → zHp → Option (Int × zHp)) (a0 : Nat) (a1 : Int) (a2 : Int) (a4 : Int) : Nat → Int → Int → zHp → Option (Int × zHp)
  | 0, _, _, _ => none
  | n + 1, v3, v5, M =>
    zb2 (f_Md_tables a0 a4 M) fun x9 M8 =>
    if zle x9 v5 then
      κ v3 M8
    else
    if zle 0 v3 then
      κ v3 M8
    else
    zb2 (f_Md_may a0 a4 v5 a2 M8) fun x14 M13 =>
    if zeq x14 0 then
      f_Md_find_L26 κ a0 a1 a2 a4 n v3 (zadd v5 1) M13
    else
    (gI M13 8 a0 9).bind fun x16 =>
    (pI M13 8 a0 9 (zadd x16 1)).bind fun M18 =>
    zb2 (f_Md_latest a0 a4 v5 a1 a2 M18) fun x22 M21 =>
    f_Md_find_L26 κ a0 a1 a2 a4 n x22 (zadd v5 1) M21
def f_Md_find_L17 (κ : Int → zHp → Option (Int × zHp)) (a0 : Nat) (a1 : Int) (a2 : Int) : Nat → Int → Int → zHp → Option (Int × zHp)
  | 0, _, _, _ => none
  | n + 1, v3, v4, M =>
    if zle 3 v4 then
      κ v3 M
    else
    f_Md_find_L26 (fun v23 M24 =>
      f_Md_find_L17 κ a0 a1 a2 n v23 (zadd v4 1) M24) a0 a1 a2 v4 zfu v3 0 M
def f_Md_find (a0 : Nat) (a1 : Int) (a2 : Int) (M : zHp) : Option (Int × zHp) :=
  if zk M a0 = 8 then
    (pI M 8 a0 9 0).bind fun M1 =>
    zb2 (f_Md_latest a0 (-1) 0 a1 a2 M1) fun x5 M4 =>
    f_Md_find_L17 (fun v25 M26 =>
      some (v25, M26)) a0 a1 a2 zfu x5 0 M4
  else none
def f_Md_has (a0 : Nat) (a1 : Int) (a2 : Int) (M : zHp) : Option (Int × zHp) :=
  if zk M a0 = 8 then
    zb2 (f_Md_isView a0 a1 M) fun x3 M2 =>
    if zeq x3 0 then
      some (0, M2)
    else
    zb2 (f_Md_isKey a2 M2) fun x7 M6 =>
    if zeq x7 0 then
      some (0, M6)
    else
    zb2 (f_Md_find a0 a1 a2 M6) fun x11 M10 =>
    if zlt x11 0 then
      some (0, M10)
    else
    zb2 (f_Md_gone a0 x11 M10) fun x15 M14 =>
    if zeq x15 0 then
      some (1, M14)
    else
    some (0, M14)
  else none
def f_Md_get (a0 : Nat) (a1 : Int) (a2 : Int) (M : zHp) : Option (Int × zHp) :=
  if zk M a0 = 8 then
    zb2 (f_Md_isView a0 a1 M) fun x3 M2 =>
    if zeq x3 0 then
      some (0, M2)
    else
    zb2 (f_Md_isKey a2 M2) fun x7 M6 =>
    if zeq x7 0 then
      some (0, M6)
    else
    zb2 (f_Md_find a0 a1 a2 M6) fun x11 M10 =>
    if zlt x11 0 then
      some (0, M10)
    else
    zb2 (f_Md_gone a0 x11 M10) fun x15 M14 =>
    if zeq x15 0 then
      (gR M14 8 a0 2).bind fun x17 =>
      (ldI M14 20 x17 x11).bind fun x19 =>
      some (x19, M14)
    else
    some (0, M14)
  else none
def f_Md_there_L5 (κ : Int → zHp → Option (Int × zHp)) (a0 : Nat) (a1 : Int) (a2 : Int) : Nat → Int → Int → zHp → Option (Int × zHp)
  | 0, _, _, _ => none
  | n + 1, v3, v4, M =>
    (gI M 8 a0 1).bind fun x1 =>
    if zle x1 v4 then
      κ v3 M
    else
    (gR M 8 a0 5).bind fun x4 =>
    (ldI M 20 x4 v4).bind fun x6 =>
    if zeq x6 9 then
      f_Md_there_L5 κ a0 a1 a2 n v3 (zadd v4 1) M
    else
    (gR M 8 a0 0).bind fun x10 =>
    (ldI M 20 x10 v4).bind fun x12 =>
    if zeq x12 a2 then
      zb2 (f_Md_isSeen a0 v4 a1 M) fun x18 M17 =>
      if zeq x18 0 then
        f_Md_there_L5 κ a0 a1 a2 n v3 (zadd v4 1) M17
      else
      if zlt v3 0 then
        f_Md_there_L5 κ a0 a1 a2 n v4 (zadd v4 1) M17
      else
      (gR M17 8 a0 1).bind fun x23 =>
      (ldI M17 20 x23 v4).bind fun x25 =>
      (gR M17 8 a0 1).bind fun x27 =>
      (ldI M17 20 x27 v3).bind fun x29 =>
      if zle x25 x29 then
        f_Md_there_L5 κ a0 a1 a2 n v3 (zadd v4 1) M17
      else
      f_Md_there_L5 κ a0 a1 a2 n v4 (zadd v4 1) M17
    else
    f_Md_there_L5 κ a0 a1 a2 n v3 (zadd v4 1) M
def f_Md_there (a0 : Nat) (a1 : Int) (a2 : Int) (M : zHp) : Option (Int × zHp) :=
  if zk M a0 = 8 then
    f_Md_there_L5 (fun v32 M33 =>
      if zlt v32 0 then
        some (0, M33)
      else
      zb2 (f_Md_gone a0 v32 M33) fun x37 M36 =>
      if zeq x37 0 then
        some (1, M36)
      else
      some (0, M36)) a0 a1 a2 zfu (-1) 0 M
  else none
def f_Md_scan_L28 (κ : zHp → Option (Int × zHp)) (a0 : Nat) (a1 : Int) (a3 : Int) : Nat → Int → Int → zHp → Option (Int × zHp)
  | 0, _, _, _ => none
  | n + 1, v4, v5, M =>
    if zle 32 v5 then
      κ M
    else
    zb2 (f_Md_there a0 a1 v5 M) fun x10 M9 =>
    if zeq x10 0 then
      f_Md_scan_L28 κ a0 a1 a3 n v4 (zadd v5 1) M9
    else
    if zeq v4 a3 then
      some (v5, M9)
    else
    f_Md_scan_L28 κ a0 a1 a3 n (zadd v4 1) (zadd v5 1) M9
def f_Md_scan (a0 : Nat) (a1 : Int) (a2 : Int) (a3 : Int) (M : zHp) : Option (Int × zHp) :=
  if zk M a0 = 8 then
    zb2 (f_Md_isView a0 a1 M) fun x3 M2 =>
    if zeq x3 0 then
      some ((-1), M2)
    else
    if zle 0 a3 then
      if zle 0 a2 then
        f_Md_scan_L28 (fun M13 =>
          some ((-2), M13)) a0 a1 a3 zfu 0 a2 M2
      else
      f_Md_scan_L28 (fun M14 =>
        some ((-2), M14)) a0 a1 a3 zfu 0 0 M2
    else
    some ((-1), M2)
  else none
def f_Md_probes (a0 : Nat) (M : zHp) : Option (Int × zHp) :=
  if zk M a0 = 8 then
    (gI M 8 a0 9).bind fun x1 =>
    some (x1, M)
  else none
def f_Md_table_L49 (κ : Int → Int → zHp → Option (Int × zHp)) (a0 : Nat) (a1 : Int) (a2 : Int) : Nat → Int → Int → Int → zHp → Option (Int × zHp)
  | 0, _, _, _, _ => none
  | n + 1, v5, v6, v7, M =>
    (gI M 8 a0 1).bind fun x9 =>
    if zle x9 v7 then
      κ v5 v6 M
    else
    zb2 (f_Md_lies a0 v7 a1 a2 M) fun x14 M13 =>
    if zeq x14 0 then
      f_Md_table_L49 κ a0 a1 a2 n v5 v6 (zadd v7 1) M13
    else
    (gR M13 8 a0 1).bind fun x16 =>
    (ldI M13 20 x16 v7).bind fun x18 =>
    if zle x18 v6 then
      f_Md_table_L49 κ a0 a1 a2 n (zadd v5 1) v6 (zadd v7 1) M13
    else
    (gR M13 8 a0 1).bind fun x21 =>
    (ldI M13 20 x21 v7).bind fun x23 =>
    f_Md_table_L49 κ a0 a1 a2 n (zadd v5 1) x23 (zadd v7 1) M13
def f_Md_table (a0 : Nat) (a1 : Int) (a2 : Int) (a3 : Int) (M : zHp) : Option (Int × zHp) :=
  if zk M a0 = 8 then
    if zlt a1 0 then
      some ((-2), M)
    else
    if zle a1 2 then
      zb2 (f_Md_tables a0 a1 M) fun x5 M4 =>
      if zeq a2 (-1) then
        some (x5, M4)
      else
      if zlt a2 0 then
        some ((-2), M4)
      else
      if zlt a2 x5 then
        f_Md_table_L49 (fun v25 v26 M27 =>
          if zeq a3 0 then
            some (v25, M27)
          else
          if zeq a3 1 then
            zb2 (f_Md_filter a0 a1 a2 M27) fun x32 M31 =>
            some (x32, M31)
          else
          if zeq a3 2 then
            zb2 (f_Md_bound a0 a1 a2 0 M27) fun x36 M35 =>
            some (x36, M35)
          else
          if zeq a3 3 then
            zb2 (f_Md_bound a0 a1 a2 1 M27) fun x40 M39 =>
            some (x40, M39)
          else
          if zeq a3 4 then
            some (v26, M27)
          else
          some ((-2), M27)) a0 a1 a2 zfu 0 0 0 M4
      else
      some ((-2), M4)
    else
    some ((-2), M)
  else none
def f_Md_segment (a0 : Nat) (a1 : Int) (a2 : Int) (M : zHp) : Option (Int × zHp) :=
  if zk M a0 = 8 then
    (gI M 8 a0 7).bind fun x1 =>
    (gI M 8 a0 6).bind fun x3 =>
    if zeq a1 (-1) then
      some ((zadd (zsub x1 x3) 1), M)
    else
    if zlt a1 0 then
      some ((-2), M)
    else
    if zlt a1 (zadd (zsub x1 x3) 1) then
      if zeq a2 0 then
        (gI M 8 a0 6).bind fun x9 =>
        some ((zadd x9 a1), M)
      else
      if zeq a2 1 then
        (gR M 8 a0 16).bind fun x12 =>
        (gI M 8 a0 6).bind fun x14 =>
        (ldI M 20 x12 (zrem (zadd x14 a1) 8)).bind fun x16 =>
        some (x16, M)
      else
      if zeq a2 2 then
        (gI M 8 a0 6).bind fun x19 =>
        zb2 (f_Md_liveIn a0 (zadd x19 a1) M) fun x23 M22 =>
        some (x23, M22)
      else
      some ((-2), M)
    else
    some ((-2), M)
  else none
def f_Md_look (a0 : Nat) (a1 : Int) (M : zHp) : Option (Int × zHp) :=
  if zk M a0 = 8 then
    if zeq a1 0 then
      zb2 (f_Md_size a0 (-1) M) fun x4 M3 =>
      some (x4, M3)
    else
    if zeq a1 1 then
      (gI M 8 a0 4).bind fun x6 =>
      some (x6, M)
    else
    if zeq a1 2 then
      (gI M 8 a0 8).bind fun x9 =>
      some (x9, M)
    else
    if zeq a1 3 then
      (gI M 8 a0 5).bind fun x12 =>
      some (x12, M)
    else
    if zeq a1 4 then
      (gR M 8 a0 14).bind fun x15 =>
      (ldI M 21 x15 0).bind fun x17 =>
      if zeq x17 0 then
        (gR M 8 a0 14).bind fun x20 =>
        (ldI M 21 x20 1).bind fun x22 =>
        if zeq x22 0 then
          (gR M 8 a0 14).bind fun x25 =>
          (ldI M 21 x25 2).bind fun x27 =>
          if zeq x27 0 then
            some ((zadd (zadd 0 0) 0), M)
          else
          some ((zadd (zadd 0 0) 1), M)
        else
        (gR M 8 a0 14).bind fun x30 =>
        (ldI M 21 x30 2).bind fun x32 =>
        if zeq x32 0 then
          some ((zadd (zadd 0 1) 0), M)
        else
        some ((zadd (zadd 0 1) 1), M)
      else
      (gR M 8 a0 14).bind fun x35 =>
      (ldI M 21 x35 1).bind fun x37 =>
      if zeq x37 0 then
        (gR M 8 a0 14).bind fun x40 =>
        (ldI M 21 x40 2).bind fun x42 =>
        if zeq x42 0 then
          some ((zadd (zadd 1 0) 0), M)
        else
        some ((zadd (zadd 1 0) 1), M)
      else
      (gR M 8 a0 14).bind fun x45 =>
      (ldI M 21 x45 2).bind fun x47 =>
      if zeq x47 0 then
        some ((zadd (zadd 1 1) 0), M)
      else
      some ((zadd (zadd 1 1) 1), M)
    else
    some ((-2), M)
  else none
