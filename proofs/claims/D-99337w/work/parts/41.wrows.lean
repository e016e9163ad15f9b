/-! UNFOLD ROWS by depth -/
set_option maxRecDepth 100000
section WR
variable {d : Nat} {m : PM} {r : PRes}
theorem wX0_person {args : List Value} (hd : 1 ≤ d) (hf : Nat.ble (enL args).length 5 = true) : Run d 0 args m r ↔ Ev (d - 1) 0 cX0_person (some .int) (fun _ => none) 0 (enT args 5) [] m r := by
  cases d with
  | zero => omega
  | succ d => exact uX0_person (Nat.le_of_ble_eq_true hf)
theorem wX1_init {args : List Value} (hd : 1 ≤ d) (hf : Nat.ble (enL args).length 1 = true) : Run d 1 args m r ↔ Ev (d - 1) 101 cX1_init (none) (fun _ => none) 0 (enT args 1) [] m r := by
  cases d with
  | zero => omega
  | succ d => exact uX1_init (Nat.le_of_ble_eq_true hf)
theorem wX1_feed {args : List Value} (hd : 1 ≤ d) (hf : Nat.ble (enL args).length 6 = true) : Run d 2 args m r ↔ Ev (d - 1) 1 cX1_feed (some .int) (fun _ => none) 0 (enT args 6) [] m r := by
  cases d with
  | zero => omega
  | succ d => exact uX1_feed (Nat.le_of_ble_eq_true hf)
theorem wX1_four {args : List Value} (hd : 1 ≤ d) (hf : Nat.ble (enL args).length 3 = true) : Run d 3 args m r ↔ Ev (d - 1) 1 cX1_four (none) (fun _ => none) 0 (enT args 3) [] m r := by
  cases d with
  | zero => omega
  | succ d => exact uX1_four (Nat.le_of_ble_eq_true hf)
theorem wX1_end {args : List Value} (hd : 1 ≤ d) (hf : Nat.ble (enL args).length 2 = true) : Run d 4 args m r ↔ Ev (d - 1) 1 cX1_end (some .boolean) (fun _ => none) 0 (enT args 2) [] m r := by
  cases d with
  | zero => omega
  | succ d => exact uX1_end (Nat.le_of_ble_eq_true hf)
theorem wX1_table {args : List Value} (hd : 1 ≤ d) (hf : Nat.ble (enL args).length 3 = true) : Run d 5 args m r ↔ Ev (d - 1) 1 cX1_table (some .int) (mH 5) 0 (enT args 3) [] m r := by
  cases d with
  | zero => omega
  | succ d => exact uX1_table (Nat.le_of_ble_eq_true hf)
theorem wX1_taken {args : List Value} (hd : 1 ≤ d) (hf : Nat.ble (enL args).length 1 = true) : Run d 6 args m r ↔ Ev (d - 1) 1 cX1_taken (none) (fun _ => none) 0 (enT args 1) [] m r := by
  cases d with
  | zero => omega
  | succ d => exact uX1_taken (Nat.le_of_ble_eq_true hf)
theorem wX1_isIn {args : List Value} (hd : 1 ≤ d) (hf : Nat.ble (enL args).length 3 = true) : Run d 7 args m r ↔ Ev (d - 1) 1 cX1_isIn (some .boolean) (fun _ => none) 0 (enT args 3) [] m r := by
  cases d with
  | zero => omega
  | succ d => exact uX1_isIn (Nat.le_of_ble_eq_true hf)
theorem wX1_has {args : List Value} (hd : 1 ≤ d) (hf : Nat.ble (enL args).length 2 = true) : Run d 8 args m r ↔ Ev (d - 1) 1 cX1_has (some .boolean) (fun _ => none) 0 (enT args 2) [] m r := by
  cases d with
  | zero => omega
  | succ d => exact uX1_has (Nat.le_of_ble_eq_true hf)
theorem wX1_fault {args : List Value} (hd : 1 ≤ d) (hf : Nat.ble (enL args).length 1 = true) : Run d 9 args m r ↔ Ev (d - 1) 1 cX1_fault (some .int) (fun _ => none) 0 (enT args 1) [] m r := by
  cases d with
  | zero => omega
  | succ d => exact uX1_fault (Nat.le_of_ble_eq_true hf)
theorem wX1_plate {args : List Value} (hd : 1 ≤ d) (hf : Nat.ble (enL args).length 3 = true) : Run d 10 args m r ↔ Ev (d - 1) 1 cX1_plate (some .int) (fun _ => none) 0 (enT args 3) [] m r := by
  cases d with
  | zero => omega
  | succ d => exact uX1_plate (Nat.le_of_ble_eq_true hf)
theorem wX1_isPerson {args : List Value} (hd : 1 ≤ d) (hf : Nat.ble (enL args).length 2 = true) : Run d 11 args m r ↔ Ev (d - 1) 1 cX1_isPerson (some .boolean) (fun _ => none) 0 (enT args 2) [] m r := by
  cases d with
  | zero => omega
  | succ d => exact uX1_isPerson (Nat.le_of_ble_eq_true hf)
theorem wX1_isDish {args : List Value} (hd : 1 ≤ d) (hf : Nat.ble (enL args).length 2 = true) : Run d 12 args m r ↔ Ev (d - 1) 1 cX1_isDish (some .boolean) (fun _ => none) 0 (enT args 2) [] m r := by
  cases d with
  | zero => omega
  | succ d => exact uX1_isDish (Nat.le_of_ble_eq_true hf)
theorem wX1_dish {args : List Value} (hd : 1 ≤ d) (hf : Nat.ble (enL args).length 5 = true) : Run d 13 args m r ↔ Ev (d - 1) 1 cX1_dish (some .int) (fun _ => none) 0 (enT args 5) [] m r := by
  cases d with
  | zero => omega
  | succ d => exact uX1_dish (Nat.le_of_ble_eq_true hf)
theorem wX1_now {args : List Value} (hd : 1 ≤ d) (hf : Nat.ble (enL args).length 5 = true) : Run d 14 args m r ↔ Ev (d - 1) 1 cX1_now (some .int) (fun _ => none) 0 (enT args 5) [] m r := by
  cases d with
  | zero => omega
  | succ d => exact uX1_now (Nat.le_of_ble_eq_true hf)
theorem wX1_undo {args : List Value} (hd : 1 ≤ d) (hf : Nat.ble (enL args).length 1 = true) : Run d 15 args m r ↔ Ev (d - 1) 1 cX1_undo (some .int) (fun _ => none) 0 (enT args 1) [] m r := by
  cases d with
  | zero => omega
  | succ d => exact uX1_undo (Nat.le_of_ble_eq_true hf)
theorem wX1_eat {args : List Value} (hd : 1 ≤ d) (hf : Nat.ble (enL args).length 5 = true) : Run d 16 args m r ↔ Ev (d - 1) 1 cX1_eat (some .int) (fun _ => none) 0 (enT args 5) [] m r := by
  cases d with
  | zero => omega
  | succ d => exact uX1_eat (Nat.le_of_ble_eq_true hf)
theorem wX1_keep {args : List Value} (hd : 1 ≤ d) (hf : Nat.ble (enL args).length 2 = true) : Run d 17 args m r ↔ Ev (d - 1) 1 cX1_keep (none) (fun _ => none) 0 (enT args 2) [] m r := by
  cases d with
  | zero => omega
  | succ d => exact uX1_keep (Nat.le_of_ble_eq_true hf)
theorem wX1_serve {args : List Value} (hd : 1 ≤ d) (hf : Nat.ble (enL args).length 5 = true) : Run d 18 args m r ↔ Ev (d - 1) 1 cX1_serve (some .int) (fun _ => none) 0 (enT args 5) [] m r := by
  cases d with
  | zero => omega
  | succ d => exact uX1_serve (Nat.le_of_ble_eq_true hf)
theorem wX1_rise {args : List Value} (hd : 1 ≤ d) (hf : Nat.ble (enL args).length 3 = true) : Run d 19 args m r ↔ Ev (d - 1) 1 cX1_rise (some .int) (fun _ => none) 0 (enT args 3) [] m r := by
  cases d with
  | zero => omega
  | succ d => exact uX1_rise (Nat.le_of_ble_eq_true hf)
theorem wX1_refuse {args : List Value} (hd : 1 ≤ d) (hf : Nat.ble (enL args).length 3 = true) : Run d 20 args m r ↔ Ev (d - 1) 1 cX1_refuse (some .int) (fun _ => none) 0 (enT args 3) [] m r := by
  cases d with
  | zero => omega
  | succ d => exact uX1_refuse (Nat.le_of_ble_eq_true hf)
theorem wX1_accept {args : List Value} (hd : 1 ≤ d) (hf : Nat.ble (enL args).length 3 = true) : Run d 21 args m r ↔ Ev (d - 1) 1 cX1_accept (some .int) (fun _ => none) 0 (enT args 3) [] m r := by
  cases d with
  | zero => omega
  | succ d => exact uX1_accept (Nat.le_of_ble_eq_true hf)
theorem wX1_die {args : List Value} (hd : 1 ≤ d) (hf : Nat.ble (enL args).length 2 = true) : Run d 22 args m r ↔ Ev (d - 1) 1 cX1_die (some .int) (fun _ => none) 0 (enT args 2) [] m r := by
  cases d with
  | zero => omega
  | succ d => exact uX1_die (Nat.le_of_ble_eq_true hf)
theorem wX1_meals {args : List Value} (hd : 1 ≤ d) (hf : Nat.ble (enL args).length 2 = true) : Run d 23 args m r ↔ Ev (d - 1) 1 cX1_meals (some .int) (fun _ => none) 0 (enT args 2) [] m r := by
  cases d with
  | zero => omega
  | succ d => exact uX1_meals (Nat.le_of_ble_eq_true hf)
theorem wX1_heir {args : List Value} (hd : 1 ≤ d) (hf : Nat.ble (enL args).length 2 = true) : Run d 24 args m r ↔ Ev (d - 1) 1 cX1_heir (some .int) (fun _ => none) 0 (enT args 2) [] m r := by
  cases d with
  | zero => omega
  | succ d => exact uX1_heir (Nat.le_of_ble_eq_true hf)
theorem wX1_line {args : List Value} (hd : 1 ≤ d) (hf : Nat.ble (enL args).length 6 = true) : Run d 25 args m r ↔ Ev (d - 1) 1 cX1_line (some .int) (fun _ => none) 0 (enT args 6) [] m r := by
  cases d with
  | zero => omega
  | succ d => exact uX1_line (Nat.le_of_ble_eq_true hf)
theorem wX1_order {args : List Value} (hd : 1 ≤ d) (hf : Nat.ble (enL args).length 1 = true) : Run d 26 args m r ↔ Ev (d - 1) 1 cX1_order (some .int) (fun _ => none) 0 (enT args 1) [] m r := by
  cases d with
  | zero => omega
  | succ d => exact uX1_order (Nat.le_of_ble_eq_true hf)
theorem wX1_living {args : List Value} (hd : 1 ≤ d) (hf : Nat.ble (enL args).length 1 = true) : Run d 27 args m r ↔ Ev (d - 1) 1 cX1_living (some .int) (fun _ => none) 0 (enT args 1) [] m r := by
  cases d with
  | zero => omega
  | succ d => exact uX1_living (Nat.le_of_ble_eq_true hf)
theorem wX1_orders {args : List Value} (hd : 1 ≤ d) (hf : Nat.ble (enL args).length 5 = true) : Run d 28 args m r ↔ Ev (d - 1) 1 cX1_orders (none) (fun _ => none) 0 (enT args 5) [] m r := by
  cases d with
  | zero => omega
  | succ d => exact uX1_orders (Nat.le_of_ble_eq_true hf)
theorem wX1_orderAt {args : List Value} (hd : 1 ≤ d) (hf : Nat.ble (enL args).length 2 = true) : Run d 29 args m r ↔ Ev (d - 1) 1 cX1_orderAt (some .int) (fun _ => none) 0 (enT args 2) [] m r := by
  cases d with
  | zero => omega
  | succ d => exact uX1_orderAt (Nat.le_of_ble_eq_true hf)
theorem wX1_eaters {args : List Value} (hd : 1 ≤ d) (hf : Nat.ble (enL args).length 6 = true) : Run d 30 args m r ↔ Ev (d - 1) 1 cX1_eaters (some .int) (fun _ => none) 0 (enT args 6) [] m r := by
  cases d with
  | zero => omega
  | succ d => exact uX1_eaters (Nat.le_of_ble_eq_true hf)
theorem wX1_one {args : List Value} (hd : 1 ≤ d) (hf : Nat.ble (enL args).length 2 = true) : Run d 31 args m r ↔ Ev (d - 1) 1 cX1_one (some .int) (fun _ => none) 0 (enT args 2) [] m r := by
  cases d with
  | zero => omega
  | succ d => exact uX1_one (Nat.le_of_ble_eq_true hf)
theorem wX1_onPlates {args : List Value} (hd : 1 ≤ d) (hf : Nat.ble (enL args).length 5 = true) : Run d 32 args m r ↔ Ev (d - 1) 1 cX1_onPlates (some .int) (fun _ => none) 0 (enT args 5) [] m r := by
  cases d with
  | zero => omega
  | succ d => exact uX1_onPlates (Nat.le_of_ble_eq_true hf)
theorem wX1_surely {args : List Value} (hd : 1 ≤ d) (hf : Nat.ble (enL args).length 1 = true) : Run d 33 args m r ↔ Ev (d - 1) 1 cX1_surely (some .int) (fun _ => none) 0 (enT args 1) [] m r := by
  cases d with
  | zero => omega
  | succ d => exact uX1_surely (Nat.le_of_ble_eq_true hf)
theorem wX1_ask {args : List Value} (hd : 1 ≤ d) (hf : Nat.ble (enL args).length 1 = true) : Run d 34 args m r ↔ Ev (d - 1) 1 cX1_ask (some .int) (fun _ => none) 0 (enT args 1) [] m r := by
  cases d with
  | zero => omega
  | succ d => exact uX1_ask (Nat.le_of_ble_eq_true hf)
theorem wX1_share {args : List Value} (hd : 1 ≤ d) (hf : Nat.ble (enL args).length 8 = true) : Run d 35 args m r ↔ Ev (d - 1) 1 cX1_share (some .int) (fun _ => none) 0 (enT args 8) [] m r := by
  cases d with
  | zero => omega
  | succ d => exact uX1_share (Nat.le_of_ble_eq_true hf)
theorem wX1_last {args : List Value} (hd : 1 ≤ d) (hf : Nat.ble (enL args).length 6 = true) : Run d 36 args m r ↔ Ev (d - 1) 1 cX1_last (some .int) (fun _ => none) 0 (enT args 6) [] m r := by
  cases d with
  | zero => omega
  | succ d => exact uX1_last (Nat.le_of_ble_eq_true hf)
theorem wX1_seats {args : List Value} (hd : 1 ≤ d) (hf : Nat.ble (enL args).length 1 = true) : Run d 37 args m r ↔ Ev (d - 1) 1 cX1_seats (some .int) (fun _ => none) 0 (enT args 1) [] m r := by
  cases d with
  | zero => omega
  | succ d => exact uX1_seats (Nat.le_of_ble_eq_true hf)
theorem wX1_sits {args : List Value} (hd : 1 ≤ d) (hf : Nat.ble (enL args).length 6 = true) : Run d 38 args m r ↔ Ev (d - 1) 1 cX1_sits (none) (fun _ => none) 0 (enT args 6) [] m r := by
  cases d with
  | zero => omega
  | succ d => exact uX1_sits (Nat.le_of_ble_eq_true hf)
theorem wX1_seatAt {args : List Value} (hd : 1 ≤ d) (hf : Nat.ble (enL args).length 2 = true) : Run d 39 args m r ↔ Ev (d - 1) 1 cX1_seatAt (some .int) (fun _ => none) 0 (enT args 2) [] m r := by
  cases d with
  | zero => omega
  | succ d => exact uX1_seatAt (Nat.le_of_ble_eq_true hf)
theorem wX1_left {args : List Value} (hd : 1 ≤ d) (hf : Nat.ble (enL args).length 3 = true) : Run d 40 args m r ↔ Ev (d - 1) 1 cX1_left (some .int) (fun _ => none) 0 (enT args 3) [] m r := by
  cases d with
  | zero => omega
  | succ d => exact uX1_left (Nat.le_of_ble_eq_true hf)
theorem wX1_kin {args : List Value} (hd : 1 ≤ d) (hf : Nat.ble (enL args).length 8 = true) : Run d 41 args m r ↔ Ev (d - 1) 1 cX1_kin (some .int) (fun _ => none) 0 (enT args 8) [] m r := by
  cases d with
  | zero => omega
  | succ d => exact uX1_kin (Nat.le_of_ble_eq_true hf)
theorem wX1_hungriest {args : List Value} (hd : 1 ≤ d) (hf : Nat.ble (enL args).length 3 = true) : Run d 42 args m r ↔ Ev (d - 1) 1 cX1_hungriest (some .int) (fun _ => none) 0 (enT args 3) [] m r := by
  cases d with
  | zero => omega
  | succ d => exact uX1_hungriest (Nat.le_of_ble_eq_true hf)
theorem wX1_will {args : List Value} (hd : 1 ≤ d) (hf : Nat.ble (enL args).length 3 = true) : Run d 43 args m r ↔ Ev (d - 1) 1 cX1_will (some .int) (fun _ => none) 0 (enT args 3) [] m r := by
  cases d with
  | zero => omega
  | succ d => exact uX1_will (Nat.le_of_ble_eq_true hf)
theorem wX1_put {args : List Value} (hd : 1 ≤ d) (hf : Nat.ble (enL args).length 4 = true) : Run d 44 args m r ↔ Ev (d - 1) 1 cX1_put (none) (fun _ => none) 0 (enT args 4) [] m r := by
  cases d with
  | zero => omega
  | succ d => exact uX1_put (Nat.le_of_ble_eq_true hf)
theorem wX1_put_2 {args : List Value} (hd : 1 ≤ d) (hf : Nat.ble (enL args).length 2 = true) : Run d 45 args m r ↔ Ev (d - 1) 1 cX1_put_2 (none) (fun _ => none) 0 (enT args 2) [] m r := by
  cases d with
  | zero => omega
  | succ d => exact uX1_put_2 (Nat.le_of_ble_eq_true hf)
theorem wX1_put_3 {args : List Value} (hd : 1 ≤ d) (hf : Nat.ble (enL args).length 3 = true) : Run d 46 args m r ↔ Ev (d - 1) 1 cX1_put_3 (none) (fun _ => none) 0 (enT args 3) [] m r := by
  cases d with
  | zero => omega
  | succ d => exact uX1_put_3 (Nat.le_of_ble_eq_true hf)
theorem wX1_byteAt {args : List Value} (hd : 1 ≤ d) (hf : Nat.ble (enL args).length 2 = true) : Run d 47 args m r ↔ Ev (d - 1) 1 cX1_byteAt (some .int) (fun _ => none) 0 (enT args 2) [] m r := by
  cases d with
  | zero => omega
  | succ d => exact uX1_byteAt (Nat.le_of_ble_eq_true hf)
theorem wX1_drawn {args : List Value} (hd : 1 ≤ d) (hf : Nat.ble (enL args).length 3 = true) : Run d 48 args m r ↔ Ev (d - 1) 1 cX1_drawn (some .int) (fun _ => none) 0 (enT args 3) [] m r := by
  cases d with
  | zero => omega
  | succ d => exact uX1_drawn (Nat.le_of_ble_eq_true hf)
theorem wX1_odds {args : List Value} (hd : 1 ≤ d) (hf : Nat.ble (enL args).length 6 = true) : Run d 49 args m r ↔ Ev (d - 1) 1 cX1_odds (some .int) (fun _ => none) 0 (enT args 6) [] m r := by
  cases d with
  | zero => omega
  | succ d => exact uX1_odds (Nat.le_of_ble_eq_true hf)
theorem wX1_book {args : List Value} (hd : 1 ≤ d) (hf : Nat.ble (enL args).length 7 = true) : Run d 50 args m r ↔ Ev (d - 1) 1 cX1_book (some .int) (mH 50) 0 (enT args 7) [] m r := by
  cases d with
  | zero => omega
  | succ d => exact uX1_book (Nat.le_of_ble_eq_true hf)
theorem wX1_told {args : List Value} (hd : 1 ≤ d) (hf : Nat.ble (enL args).length 2 = true) : Run d 51 args m r ↔ Ev (d - 1) 1 cX1_told (some .int) (fun _ => none) 0 (enT args 2) [] m r := by
  cases d with
  | zero => omega
  | succ d => exact uX1_told (Nat.le_of_ble_eq_true hf)
theorem wX1_sentence {args : List Value} (hd : 1 ≤ d) (hf : Nat.ble (enL args).length 2 = true) : Run d 52 args m r ↔ Ev (d - 1) 1 cX1_sentence (some .int) (mH 52) 0 (enT args 2) [] m r := by
  cases d with
  | zero => omega
  | succ d => exact uX1_sentence (Nat.le_of_ble_eq_true hf)
theorem wX1_said {args : List Value} (hd : 1 ≤ d) (hf : Nat.ble (enL args).length 4 = true) : Run d 53 args m r ↔ Ev (d - 1) 1 cX1_said (some .int) (fun _ => none) 0 (enT args 4) [] m r := by
  cases d with
  | zero => omega
  | succ d => exact uX1_said (Nat.le_of_ble_eq_true hf)
theorem wX1_image {args : List Value} (hd : 1 ≤ d) (hf : Nat.ble (enL args).length 3 = true) : Run d 54 args m r ↔ Ev (d - 1) 1 cX1_image (some .boolean) (fun _ => none) 0 (enT args 3) [] m r := by
  cases d with
  | zero => omega
  | succ d => exact uX1_image (Nat.le_of_ble_eq_true hf)
theorem wX1_restore {args : List Value} (hd : 1 ≤ d) (hf : Nat.ble (enL args).length 3 = true) : Run d 55 args m r ↔ Ev (d - 1) 1 cX1_restore (some .boolean) (fun _ => none) 0 (enT args 3) [] m r := by
  cases d with
  | zero => omega
  | succ d => exact uX1_restore (Nat.le_of_ble_eq_true hf)
theorem wX1_count {args : List Value} (hd : 1 ≤ d) (hf : Nat.ble (enL args).length 2 = true) : Run d 56 args m r ↔ Ev (d - 1) 1 cX1_count (some .int) (fun _ => none) 0 (enT args 2) [] m r := by
  cases d with
  | zero => omega
  | succ d => exact uX1_count (Nat.le_of_ble_eq_true hf)
theorem wX1_person {args : List Value} (hd : 1 ≤ d) (hf : Nat.ble (enL args).length 3 = true) : Run d 57 args m r ↔ Ev (d - 1) 1 cX1_person (some .int) (fun _ => none) 0 (enT args 3) [] m r := by
  cases d with
  | zero => omega
  | succ d => exact uX1_person (Nat.le_of_ble_eq_true hf)
theorem wX3_init {args : List Value} (hd : 1 ≤ d) (hf : Nat.ble (enL args).length 1 = true) : Run d 60 args m r ↔ Ev (d - 1) 103 cX3_init (none) (fun _ => none) 0 (enT args 1) [] m r := by
  cases d with
  | zero => omega
  | succ d => exact uX3_init (Nat.le_of_ble_eq_true hf)
theorem wX3_areNear {args : List Value} (hd : 1 ≤ d) (hf : Nat.ble (enL args).length 3 = true) : Run d 61 args m r ↔ Ev (d - 1) 3 cX3_areNear (some .boolean) (fun _ => none) 0 (enT args 3) [] m r := by
  cases d with
  | zero => omega
  | succ d => exact uX3_areNear (Nat.le_of_ble_eq_true hf)
theorem wX3_children {args : List Value} (hd : 1 ≤ d) (hf : Nat.ble (enL args).length 4 = true) : Run d 62 args m r ↔ Ev (d - 1) 3 cX3_children (some .int) (fun _ => none) 0 (enT args 4) [] m r := by
  cases d with
  | zero => omega
  | succ d => exact uX3_children (Nat.le_of_ble_eq_true hf)
theorem wX4_init {args : List Value} (hd : 1 ≤ d) (hf : Nat.ble (enL args).length 1 = true) : Run d 63 args m r ↔ Ev (d - 1) 104 cX4_init (none) (fun _ => none) 0 (enT args 1) [] m r := by
  cases d with
  | zero => omega
  | succ d => exact uX4_init (Nat.le_of_ble_eq_true hf)
theorem wX4_begin {args : List Value} (hd : 1 ≤ d) (hf : Nat.ble (enL args).length 2 = true) : Run d 64 args m r ↔ Ev (d - 1) 4 cX4_begin (none) (fun _ => none) 0 (enT args 2) [] m r := by
  cases d with
  | zero => omega
  | succ d => exact uX4_begin (Nat.le_of_ble_eq_true hf)
theorem wX4_be {args : List Value} (hd : 1 ≤ d) (hf : Nat.ble (enL args).length 2 = true) : Run d 65 args m r ↔ Ev (d - 1) 4 cX4_be (none) (fun _ => none) 0 (enT args 2) [] m r := by
  cases d with
  | zero => omega
  | succ d => exact uX4_be (Nat.le_of_ble_eq_true hf)
theorem wX4_whyEat {args : List Value} (hd : 1 ≤ d) (hf : Nat.ble (enL args).length 5 = true) : Run d 66 args m r ↔ Ev (d - 1) 4 cX4_whyEat (some .int) (fun _ => none) 0 (enT args 5) [] m r := by
  cases d with
  | zero => omega
  | succ d => exact uX4_whyEat (Nat.le_of_ble_eq_true hf)
theorem wX4_isDead {args : List Value} (hd : 1 ≤ d) (hf : Nat.ble (enL args).length 2 = true) : Run d 67 args m r ↔ Ev (d - 1) 4 cX4_isDead (some .boolean) (fun _ => none) 0 (enT args 2) [] m r := by
  cases d with
  | zero => omega
  | succ d => exact uX4_isDead (Nat.le_of_ble_eq_true hf)
theorem wX4_eat {args : List Value} (hd : 1 ≤ d) (hf : Nat.ble (enL args).length 4 = true) : Run d 68 args m r ↔ Ev (d - 1) 4 cX4_eat (none) (fun _ => none) 0 (enT args 4) [] m r := by
  cases d with
  | zero => omega
  | succ d => exact uX4_eat (Nat.le_of_ble_eq_true hf)
theorem wX4_whyServe {args : List Value} (hd : 1 ≤ d) (hf : Nat.ble (enL args).length 4 = true) : Run d 69 args m r ↔ Ev (d - 1) 4 cX4_whyServe (some .int) (fun _ => none) 0 (enT args 4) [] m r := by
  cases d with
  | zero => omega
  | succ d => exact uX4_whyServe (Nat.le_of_ble_eq_true hf)
theorem wX4_serve {args : List Value} (hd : 1 ≤ d) (hf : Nat.ble (enL args).length 4 = true) : Run d 70 args m r ↔ Ev (d - 1) 4 cX4_serve (none) (fun _ => none) 0 (enT args 4) [] m r := by
  cases d with
  | zero => omega
  | succ d => exact uX4_serve (Nat.le_of_ble_eq_true hf)
theorem wX4_whyRise {args : List Value} (hd : 1 ≤ d) (hf : Nat.ble (enL args).length 2 = true) : Run d 71 args m r ↔ Ev (d - 1) 4 cX4_whyRise (some .int) (fun _ => none) 0 (enT args 2) [] m r := by
  cases d with
  | zero => omega
  | succ d => exact uX4_whyRise (Nat.le_of_ble_eq_true hf)
theorem wX4_on {args : List Value} (hd : 1 ≤ d) (hf : Nat.ble (enL args).length 4 = true) : Run d 72 args m r ↔ Ev (d - 1) 4 cX4_on (some .int) (fun _ => none) 0 (enT args 4) [] m r := by
  cases d with
  | zero => omega
  | succ d => exact uX4_on (Nat.le_of_ble_eq_true hf)
theorem wX4_passes {args : List Value} (hd : 1 ≤ d) (hf : Nat.ble (enL args).length 8 = true) : Run d 73 args m r ↔ Ev (d - 1) 4 cX4_passes (none) (fun _ => none) 0 (enT args 8) [] m r := by
  cases d with
  | zero => omega
  | succ d => exact uX4_passes (Nat.le_of_ble_eq_true hf)
theorem wX4_heir {args : List Value} (hd : 1 ≤ d) (hf : Nat.ble (enL args).length 3 = true) : Run d 74 args m r ↔ Ev (d - 1) 4 cX4_heir (some .int) (fun _ => none) 0 (enT args 3) [] m r := by
  cases d with
  | zero => omega
  | succ d => exact uX4_heir (Nat.le_of_ble_eq_true hf)
theorem wX4_heir_2 {args : List Value} (hd : 1 ≤ d) (hf : Nat.ble (enL args).length 6 = true) : Run d 75 args m r ↔ Ev (d - 1) 4 cX4_heir_2 (some .int) (fun _ => none) 0 (enT args 6) [] m r := by
  cases d with
  | zero => omega
  | succ d => exact uX4_heir_2 (Nat.le_of_ble_eq_true hf)
theorem wX4_nextOf {args : List Value} (hd : 1 ≤ d) (hf : Nat.ble (enL args).length 5 = true) : Run d 76 args m r ↔ Ev (d - 1) 4 cX4_nextOf (some .int) (fun _ => none) 0 (enT args 5) [] m r := by
  cases d with
  | zero => omega
  | succ d => exact uX4_nextOf (Nat.le_of_ble_eq_true hf)
theorem wX4_whyRefuse {args : List Value} (hd : 1 ≤ d) (hf : Nat.ble (enL args).length 2 = true) : Run d 77 args m r ↔ Ev (d - 1) 4 cX4_whyRefuse (some .int) (fun _ => none) 0 (enT args 2) [] m r := by
  cases d with
  | zero => omega
  | succ d => exact uX4_whyRefuse (Nat.le_of_ble_eq_true hf)
theorem wX4_whyAccept {args : List Value} (hd : 1 ≤ d) (hf : Nat.ble (enL args).length 2 = true) : Run d 78 args m r ↔ Ev (d - 1) 4 cX4_whyAccept (some .int) (fun _ => none) 0 (enT args 2) [] m r := by
  cases d with
  | zero => omega
  | succ d => exact uX4_whyAccept (Nat.le_of_ble_eq_true hf)
theorem wX4_whyDie {args : List Value} (hd : 1 ≤ d) (hf : Nat.ble (enL args).length 2 = true) : Run d 79 args m r ↔ Ev (d - 1) 4 cX4_whyDie (some .int) (fun _ => none) 0 (enT args 2) [] m r := by
  cases d with
  | zero => omega
  | succ d => exact uX4_whyDie (Nat.le_of_ble_eq_true hf)
theorem wX4_die {args : List Value} (hd : 1 ≤ d) (hf : Nat.ble (enL args).length 3 = true) : Run d 80 args m r ↔ Ev (d - 1) 4 cX4_die (none) (fun _ => none) 0 (enT args 3) [] m r := by
  cases d with
  | zero => omega
  | succ d => exact uX4_die (Nat.le_of_ble_eq_true hf)
theorem wX4_meals {args : List Value} (hd : 1 ≤ d) (hf : Nat.ble (enL args).length 4 = true) : Run d 81 args m r ↔ Ev (d - 1) 4 cX4_meals (some .int) (fun _ => none) 0 (enT args 4) [] m r := by
  cases d with
  | zero => omega
  | succ d => exact uX4_meals (Nat.le_of_ble_eq_true hf)
theorem wX4_goOn {args : List Value} (hd : 1 ≤ d) (hf : Nat.ble (enL args).length 5 = true) : Run d 82 args m r ↔ Ev (d - 1) 4 cX4_goOn (none) (fun _ => none) 0 (enT args 5) [] m r := by
  cases d with
  | zero => omega
  | succ d => exact uX4_goOn (Nat.le_of_ble_eq_true hf)
theorem wX4_wanted {args : List Value} (hd : 1 ≤ d) (hf : Nat.ble (enL args).length 4 = true) : Run d 83 args m r ↔ Ev (d - 1) 4 cX4_wanted (some .int) (fun _ => none) 0 (enT args 4) [] m r := by
  cases d with
  | zero => omega
  | succ d => exact uX4_wanted (Nat.le_of_ble_eq_true hf)
theorem wX4_eats {args : List Value} (hd : 1 ≤ d) (hf : Nat.ble (enL args).length 4 = true) : Run d 84 args m r ↔ Ev (d - 1) 4 cX4_eats (none) (fun _ => none) 0 (enT args 4) [] m r := by
  cases d with
  | zero => omega
  | succ d => exact uX4_eats (Nat.le_of_ble_eq_true hf)
theorem wX4_draws {args : List Value} (hd : 1 ≤ d) (hf : Nat.ble (enL args).length 6 = true) : Run d 85 args m r ↔ Ev (d - 1) 4 cX4_draws (some .int) (fun _ => none) 0 (enT args 6) [] m r := by
  cases d with
  | zero => omega
  | succ d => exact uX4_draws (Nat.le_of_ble_eq_true hf)
theorem wX4_drawPerson {args : List Value} (hd : 1 ≤ d) (hf : Nat.ble (enL args).length 4 = true) : Run d 86 args m r ↔ Ev (d - 1) 4 cX4_drawPerson (none) (fun _ => none) 0 (enT args 4) [] m r := by
  cases d with
  | zero => omega
  | succ d => exact uX4_drawPerson (Nat.le_of_ble_eq_true hf)
theorem wX4_draw {args : List Value} (hd : 1 ≤ d) (hf : Nat.ble (enL args).length 2 = true) : Run d 87 args m r ↔ Ev (d - 1) 4 cX4_draw (some .int) (fun _ => none) 0 (enT args 2) [] m r := by
  cases d with
  | zero => omega
  | succ d => exact uX4_draw (Nat.le_of_ble_eq_true hf)
theorem wX5_init {args : List Value} (hd : 1 ≤ d) (hf : Nat.ble (enL args).length 3 = true) : Run d 88 args m r ↔ Ev (d - 1) 105 cX5_init (none) (fun _ => none) 0 (enT args 3) [] m r := by
  cases d with
  | zero => omega
  | succ d => exact uX5_init (Nat.le_of_ble_eq_true hf)
theorem wX5_begin {args : List Value} (hd : 1 ≤ d) (hf : Nat.ble (enL args).length 1 = true) : Run d 89 args m r ↔ Ev (d - 1) 5 cX5_begin (none) (fun _ => none) 0 (enT args 1) [] m r := by
  cases d with
  | zero => omega
  | succ d => exact uX5_begin (Nat.le_of_ble_eq_true hf)
theorem wX5_next {args : List Value} (hd : 1 ≤ d) (hf : Nat.ble (enL args).length 2 = true) : Run d 90 args m r ↔ Ev (d - 1) 5 cX5_next (none) (fun _ => none) 0 (enT args 2) [] m r := by
  cases d with
  | zero => omega
  | succ d => exact uX5_next (Nat.le_of_ble_eq_true hf)
theorem wX5_peek {args : List Value} (hd : 1 ≤ d) (hf : Nat.ble (enL args).length 1 = true) : Run d 91 args m r ↔ Ev (d - 1) 5 cX5_peek (some .int) (fun _ => none) 0 (enT args 1) [] m r := by
  cases d with
  | zero => omega
  | succ d => exact uX5_peek (Nat.le_of_ble_eq_true hf)
theorem wX5_isLetter {args : List Value} (hd : 1 ≤ d) (hf : Nat.ble (enL args).length 2 = true) : Run d 92 args m r ↔ Ev (d - 1) 5 cX5_isLetter (some .boolean) (fun _ => none) 0 (enT args 2) [] m r := by
  cases d with
  | zero => omega
  | succ d => exact uX5_isLetter (Nat.le_of_ble_eq_true hf)
theorem wX5_isDigit {args : List Value} (hd : 1 ≤ d) (hf : Nat.ble (enL args).length 2 = true) : Run d 93 args m r ↔ Ev (d - 1) 5 cX5_isDigit (some .boolean) (fun _ => none) 0 (enT args 2) [] m r := by
  cases d with
  | zero => omega
  | succ d => exact uX5_isDigit (Nat.le_of_ble_eq_true hf)
theorem wX5_run {args : List Value} (hd : 1 ≤ d) (hf : Nat.ble (enL args).length 3 = true) : Run d 94 args m r ↔ Ev (d - 1) 5 cX5_run (none) (fun _ => none) 0 (enT args 3) [] m r := by
  cases d with
  | zero => omega
  | succ d => exact uX5_run (Nat.le_of_ble_eq_true hf)
theorem wX5_find {args : List Value} (hd : 1 ≤ d) (hf : Nat.ble (enL args).length 3 = true) : Run d 95 args m r ↔ Ev (d - 1) 5 cX5_find (some .int) (fun _ => none) 0 (enT args 3) [] m r := by
  cases d with
  | zero => omega
  | succ d => exact uX5_find (Nat.le_of_ble_eq_true hf)
theorem wX5_is {args : List Value} (hd : 1 ≤ d) (hf : Nat.ble (enL args).length 3 = true) : Run d 96 args m r ↔ Ev (d - 1) 5 cX5_is (some .boolean) (fun _ => none) 0 (enT args 3) [] m r := by
  cases d with
  | zero => omega
  | succ d => exact uX5_is (Nat.le_of_ble_eq_true hf)
theorem wX5_must {args : List Value} (hd : 1 ≤ d) (hf : Nat.ble (enL args).length 3 = true) : Run d 97 args m r ↔ Ev (d - 1) 5 cX5_must (none) (fun _ => none) 0 (enT args 3) [] m r := by
  cases d with
  | zero => omega
  | succ d => exact uX5_must (Nat.le_of_ble_eq_true hf)
theorem wX5_wrong {args : List Value} (hd : 1 ≤ d) (hf : Nat.ble (enL args).length 2 = true) : Run d 98 args m r ↔ Ev (d - 1) 5 cX5_wrong (some (.object "SecondHelpings$Fault")) (fun _ => none) 0 (enT args 2) [] m r := by
  cases d with
  | zero => omega
  | succ d => exact uX5_wrong (Nat.le_of_ble_eq_true hf)
theorem wX5_isName {args : List Value} (hd : 1 ≤ d) (hf : Nat.ble (enL args).length 1 = true) : Run d 99 args m r ↔ Ev (d - 1) 5 cX5_isName (some .boolean) (fun _ => none) 0 (enT args 1) [] m r := by
  cases d with
  | zero => omega
  | succ d => exact uX5_isName (Nat.le_of_ble_eq_true hf)
theorem wX5_of {args : List Value} (hd : 1 ≤ d) (hf : Nat.ble (enL args).length 4 = true) : Run d 100 args m r ↔ Ev (d - 1) 5 cX5_of (some .int) (fun _ => none) 0 (enT args 4) [] m r := by
  cases d with
  | zero => omega
  | succ d => exact uX5_of (Nat.le_of_ble_eq_true hf)
theorem wX5_number {args : List Value} (hd : 1 ≤ d) (hf : Nat.ble (enL args).length 4 = true) : Run d 101 args m r ↔ Ev (d - 1) 5 cX5_number (some .int) (fun _ => none) 0 (enT args 4) [] m r := by
  cases d with
  | zero => omega
  | succ d => exact uX5_number (Nat.le_of_ble_eq_true hf)
theorem wX5_known {args : List Value} (hd : 1 ≤ d) (hf : Nat.ble (enL args).length 4 = true) : Run d 102 args m r ↔ Ev (d - 1) 5 cX5_known (some .int) (fun _ => none) 0 (enT args 4) [] m r := by
  cases d with
  | zero => omega
  | succ d => exact uX5_known (Nat.le_of_ble_eq_true hf)
theorem wX5_look {args : List Value} (hd : 1 ≤ d) (hf : Nat.ble (enL args).length 4 = true) : Run d 103 args m r ↔ Ev (d - 1) 5 cX5_look (some .int) (fun _ => none) 0 (enT args 4) [] m r := by
  cases d with
  | zero => omega
  | succ d => exact uX5_look (Nat.le_of_ble_eq_true hf)
theorem wX5_sign {args : List Value} (hd : 1 ≤ d) (hf : Nat.ble (enL args).length 2 = true) : Run d 104 args m r ↔ Ev (d - 1) 5 cX5_sign (none) (fun _ => none) 0 (enT args 2) [] m r := by
  cases d with
  | zero => omega
  | succ d => exact uX5_sign (Nat.le_of_ble_eq_true hf)
theorem wX5_is_2 {args : List Value} (hd : 1 ≤ d) (hf : Nat.ble (enL args).length 2 = true) : Run d 105 args m r ↔ Ev (d - 1) 5 cX5_is_2 (some .boolean) (fun _ => none) 0 (enT args 2) [] m r := by
  cases d with
  | zero => omega
  | succ d => exact uX5_is_2 (Nat.le_of_ble_eq_true hf)
theorem wX6_init {args : List Value} (hd : 1 ≤ d) (hf : Nat.ble (enL args).length 2 = true) : Run d 106 args m r ↔ Ev (d - 1) 106 cX6_init (none) (fun _ => none) 0 (enT args 2) [] m r := by
  cases d with
  | zero => omega
  | succ d => exact uX6_init (Nat.le_of_ble_eq_true hf)
theorem wX6_read {args : List Value} (hd : 1 ≤ d) (hf : Nat.ble (enL args).length 4 = true) : Run d 107 args m r ↔ Ev (d - 1) 6 cX6_read (some .int) (fun _ => none) 0 (enT args 4) [] m r := by
  cases d with
  | zero => omega
  | succ d => exact uX6_read (Nat.le_of_ble_eq_true hf)
theorem wX6_line {args : List Value} (hd : 1 ≤ d) (hf : Nat.ble (enL args).length 4 = true) : Run d 108 args m r ↔ Ev (d - 1) 6 cX6_line (none) (fun _ => none) 0 (enT args 4) [] m r := by
  cases d with
  | zero => omega
  | succ d => exact uX6_line (Nat.le_of_ble_eq_true hf)
theorem wX6_person {args : List Value} (hd : 1 ≤ d) (hf : Nat.ble (enL args).length 2 = true) : Run d 109 args m r ↔ Ev (d - 1) 6 cX6_person (none) (fun _ => none) 0 (enT args 2) [] m r := by
  cases d with
  | zero => omega
  | succ d => exact uX6_person (Nat.le_of_ble_eq_true hf)
theorem wX6_fresh {args : List Value} (hd : 1 ≤ d) (hf : Nat.ble (enL args).length 3 = true) : Run d 110 args m r ↔ Ev (d - 1) 6 cX6_fresh (some .long) (fun _ => none) 0 (enT args 3) [] m r := by
  cases d with
  | zero => omega
  | succ d => exact uX6_fresh (Nat.le_of_ble_eq_true hf)
theorem wX6_dish {args : List Value} (hd : 1 ≤ d) (hf : Nat.ble (enL args).length 2 = true) : Run d 111 args m r ↔ Ev (d - 1) 6 cX6_dish (none) (fun _ => none) 0 (enT args 2) [] m r := by
  cases d with
  | zero => omega
  | succ d => exact uX6_dish (Nat.le_of_ble_eq_true hf)
theorem wX7_init {args : List Value} (hd : 1 ≤ d) (hf : Nat.ble (enL args).length 2 = true) : Run d 112 args m r ↔ Ev (d - 1) 107 cX7_init (none) (fun _ => none) 0 (enT args 2) [] m r := by
  cases d with
  | zero => omega
  | succ d => exact uX7_init (Nat.le_of_ble_eq_true hf)
theorem wX7_read {args : List Value} (hd : 1 ≤ d) (hf : Nat.ble (enL args).length 2 = true) : Run d 113 args m r ↔ Ev (d - 1) 7 cX7_read (none) (fun _ => none) 0 (enT args 2) [] m r := by
  cases d with
  | zero => omega
  | succ d => exact uX7_read (Nat.le_of_ble_eq_true hf)
theorem wX7_line {args : List Value} (hd : 1 ≤ d) (hf : Nat.ble (enL args).length 5 = true) : Run d 114 args m r ↔ Ev (d - 1) 7 cX7_line (some (.object "SecondHelpings$Line")) (fun _ => none) 0 (enT args 5) [] m r := by
  cases d with
  | zero => omega
  | succ d => exact uX7_line (Nat.le_of_ble_eq_true hf)
theorem wX8_init {args : List Value} (hd : 1 ≤ d) (hf : Nat.ble (enL args).length 2 = true) : Run d 115 args m r ↔ Ev (d - 1) 108 cX8_init (none) (fun _ => none) 0 (enT args 2) [] m r := by
  cases d with
  | zero => omega
  | succ d => exact uX8_init (Nat.le_of_ble_eq_true hf)
theorem wX8_read {args : List Value} (hd : 1 ≤ d) (hf : Nat.ble (enL args).length 2 = true) : Run d 116 args m r ↔ Ev (d - 1) 8 cX8_read (some (.object "SecondHelpings$Cond")) (fun _ => none) 0 (enT args 2) [] m r := by
  cases d with
  | zero => omega
  | succ d => exact uX8_read (Nat.le_of_ble_eq_true hf)
theorem wX8_any {args : List Value} (hd : 1 ≤ d) (hf : Nat.ble (enL args).length 3 = true) : Run d 117 args m r ↔ Ev (d - 1) 8 cX8_any (some (.object "SecondHelpings$Cond")) (fun _ => none) 0 (enT args 3) [] m r := by
  cases d with
  | zero => omega
  | succ d => exact uX8_any (Nat.le_of_ble_eq_true hf)
theorem wX8_both {args : List Value} (hd : 1 ≤ d) (hf : Nat.ble (enL args).length 3 = true) : Run d 118 args m r ↔ Ev (d - 1) 8 cX8_both (some (.object "SecondHelpings$Cond")) (fun _ => none) 0 (enT args 3) [] m r := by
  cases d with
  | zero => omega
  | succ d => exact uX8_both (Nat.le_of_ble_eq_true hf)
theorem wX8_single {args : List Value} (hd : 1 ≤ d) (hf : Nat.ble (enL args).length 8 = true) : Run d 119 args m r ↔ Ev (d - 1) 8 cX8_single (some (.object "SecondHelpings$Cond")) (fun _ => none) 0 (enT args 8) [] m r := by
  cases d with
  | zero => omega
  | succ d => exact uX8_single (Nat.le_of_ble_eq_true hf)
theorem wX9_init {args : List Value} (hd : 1 ≤ d) (hf : Nat.ble (enL args).length 1 = true) : Run d 120 args m r ↔ Ev (d - 1) 109 cX9_init (none) (fun _ => none) 0 (enT args 1) [] m r := by
  cases d with
  | zero => omega
  | succ d => exact uX9_init (Nat.le_of_ble_eq_true hf)
theorem wX9_thrown {args : List Value} (hd : 1 ≤ d) (hf : Nat.ble (enL args).length 1 = true) : Run d 121 args m r ↔ Ev (d - 1) 9 cX9_thrown (some .int) (fun _ => none) 0 (enT args 1) [] m r := by
  cases d with
  | zero => omega
  | succ d => exact uX9_thrown (Nat.le_of_ble_eq_true hf)
theorem wX9_feed {args : List Value} (hd : 1 ≤ d) (hf : Nat.ble (enL args).length 6 = true) : Run d 122 args m r ↔ Ev (d - 1) 9 cX9_feed (some .int) (fun _ => none) 0 (enT args 6) [] m r := by
  cases d with
  | zero => omega
  | succ d => exact uX9_feed (Nat.le_of_ble_eq_true hf)
theorem wX9_come {args : List Value} (hd : 1 ≤ d) (hf : Nat.ble (enL args).length 3 = true) : Run d 123 args m r ↔ Ev (d - 1) 9 cX9_come (none) (fun _ => none) 0 (enT args 3) [] m r := by
  cases d with
  | zero => omega
  | succ d => exact uX9_come (Nat.le_of_ble_eq_true hf)
theorem wX9_end {args : List Value} (hd : 1 ≤ d) (hf : Nat.ble (enL args).length 2 = true) : Run d 124 args m r ↔ Ev (d - 1) 9 cX9_end (some .boolean) (fun _ => none) 0 (enT args 2) [] m r := by
  cases d with
  | zero => omega
  | succ d => exact uX9_end (Nat.le_of_ble_eq_true hf)
theorem wX9_table {args : List Value} (hd : 1 ≤ d) (hf : Nat.ble (enL args).length 3 = true) : Run d 125 args m r ↔ Ev (d - 1) 9 cX9_table (some .int) (fun _ => none) 0 (enT args 3) [] m r := by
  cases d with
  | zero => omega
  | succ d => exact uX9_table (Nat.le_of_ble_eq_true hf)
theorem wX9_begin {args : List Value} (hd : 1 ≤ d) (hf : Nat.ble (enL args).length 2 = true) : Run d 126 args m r ↔ Ev (d - 1) 9 cX9_begin (none) (fun _ => none) 0 (enT args 2) [] m r := by
  cases d with
  | zero => omega
  | succ d => exact uX9_begin (Nat.le_of_ble_eq_true hf)
theorem wX9_take {args : List Value} (hd : 1 ≤ d) (hf : Nat.ble (enL args).length 2 = true) : Run d 127 args m r ↔ Ev (d - 1) 9 cX9_take (some .int) (fun _ => none) 0 (enT args 2) [] m r := by
  cases d with
  | zero => omega
  | succ d => exact uX9_take (Nat.le_of_ble_eq_true hf)
theorem wX9_go {args : List Value} (hd : 1 ≤ d) (hf : Nat.ble (enL args).length 5 = true) : Run d 128 args m r ↔ Ev (d - 1) 9 cX9_go (none) (fun _ => none) 0 (enT args 5) [] m r := by
  cases d with
  | zero => omega
  | succ d => exact uX9_go (Nat.le_of_ble_eq_true hf)
theorem wX9_isLetter {args : List Value} (hd : 1 ≤ d) (hf : Nat.ble (enL args).length 1 = true) : Run d 129 args m r ↔ Ev (d - 1) 9 cX9_isLetter (some .boolean) (fun _ => none) 0 (enT args 1) [] m r := by
  cases d with
  | zero => omega
  | succ d => exact uX9_isLetter (Nat.le_of_ble_eq_true hf)
theorem wX9_isDigit {args : List Value} (hd : 1 ≤ d) (hf : Nat.ble (enL args).length 1 = true) : Run d 130 args m r ↔ Ev (d - 1) 9 cX9_isDigit (some .boolean) (fun _ => none) 0 (enT args 1) [] m r := by
  cases d with
  | zero => omega
  | succ d => exact uX9_isDigit (Nat.le_of_ble_eq_true hf)
theorem wX9_tapeAt {args : List Value} (hd : 1 ≤ d) (hf : Nat.ble (enL args).length 2 = true) : Run d 131 args m r ↔ Ev (d - 1) 9 cX9_tapeAt (some .int) (fun _ => none) 0 (enT args 2) [] m r := by
  cases d with
  | zero => omega
  | succ d => exact uX9_tapeAt (Nat.le_of_ble_eq_true hf)
theorem wX9_readLine {args : List Value} (hd : 1 ≤ d) (hf : Nat.ble (enL args).length 1 = true) : Run d 132 args m r ↔ Ev (d - 1) 9 cX9_readLine (some .boolean) (fun _ => none) 0 (enT args 1) [] m r := by
  cases d with
  | zero => omega
  | succ d => exact uX9_readLine (Nat.le_of_ble_eq_true hf)
theorem wX9_isWord {args : List Value} (hd : 1 ≤ d) (hf : Nat.ble (enL args).length 2 = true) : Run d 133 args m r ↔ Ev (d - 1) 9 cX9_isWord (some .boolean) (fun _ => none) 0 (enT args 2) [] m r := by
  cases d with
  | zero => omega
  | succ d => exact uX9_isWord (Nat.le_of_ble_eq_true hf)
theorem wX9_wordOf {args : List Value} (hd : 1 ≤ d) (hf : Nat.ble (enL args).length 1 = true) : Run d 134 args m r ↔ Ev (d - 1) 9 cX9_wordOf (some .long) (fun _ => none) 0 (enT args 1) [] m r := by
  cases d with
  | zero => omega
  | succ d => exact uX9_wordOf (Nat.le_of_ble_eq_true hf)
theorem wX9_spelt {args : List Value} (hd : 1 ≤ d) (hf : Nat.ble (enL args).length 9 = true) : Run d 135 args m r ↔ Ev (d - 1) 9 cX9_spelt (some .long) (fun _ => none) 0 (enT args 9) [] m r := by
  cases d with
  | zero => omega
  | succ d => exact uX9_spelt (Nat.le_of_ble_eq_true hf)
theorem wX9_readPerson {args : List Value} (hd : 1 ≤ d) (hf : Nat.ble (enL args).length 2 = true) : Run d 136 args m r ↔ Ev (d - 1) 9 cX9_readPerson (some .boolean) (fun _ => none) 0 (enT args 2) [] m r := by
  cases d with
  | zero => omega
  | succ d => exact uX9_readPerson (Nat.le_of_ble_eq_true hf)
theorem wX9_readFirst {args : List Value} (hd : 1 ≤ d) (hf : Nat.ble (enL args).length 3 = true) : Run d 137 args m r ↔ Ev (d - 1) 9 cX9_readFirst (some .boolean) (fun _ => none) 0 (enT args 3) [] m r := by
  cases d with
  | zero => omega
  | succ d => exact uX9_readFirst (Nat.le_of_ble_eq_true hf)
theorem wX9_bad {args : List Value} (hd : 1 ≤ d) (hf : Nat.ble (enL args).length 2 = true) : Run d 138 args m r ↔ Ev (d - 1) 9 cX9_bad (some .boolean) (fun _ => none) 0 (enT args 2) [] m r := by
  cases d with
  | zero => omega
  | succ d => exact uX9_bad (Nat.le_of_ble_eq_true hf)
theorem wX9_readNew {args : List Value} (hd : 1 ≤ d) (hf : Nat.ble (enL args).length 2 = true) : Run d 139 args m r ↔ Ev (d - 1) 9 cX9_readNew (some .boolean) (fun _ => none) 0 (enT args 2) [] m r := by
  cases d with
  | zero => omega
  | succ d => exact uX9_readNew (Nat.le_of_ble_eq_true hf)
theorem wX9_isName {args : List Value} (hd : 1 ≤ d) (hf : Nat.ble (enL args).length 2 = true) : Run d 140 args m r ↔ Ev (d - 1) 9 cX9_isName (some .boolean) (fun _ => none) 0 (enT args 2) [] m r := by
  cases d with
  | zero => omega
  | succ d => exact uX9_isName (Nat.le_of_ble_eq_true hf)
theorem wX9_findIn {args : List Value} (hd : 1 ≤ d) (hf : Nat.ble (enL args).length 6 = true) : Run d 141 args m r ↔ Ev (d - 1) 9 cX9_findIn (some .int) (fun _ => none) 0 (enT args 6) [] m r := by
  cases d with
  | zero => omega
  | succ d => exact uX9_findIn (Nat.le_of_ble_eq_true hf)
theorem wX9_readNumber {args : List Value} (hd : 1 ≤ d) (hf : Nat.ble (enL args).length 3 = true) : Run d 142 args m r ↔ Ev (d - 1) 9 cX9_readNumber (some .boolean) (fun _ => none) 0 (enT args 3) [] m r := by
  cases d with
  | zero => omega
  | succ d => exact uX9_readNumber (Nat.le_of_ble_eq_true hf)
theorem wX9_isIn {args : List Value} (hd : 1 ≤ d) (hf : Nat.ble (enL args).length 3 = true) : Run d 143 args m r ↔ Ev (d - 1) 9 cX9_isIn (some .boolean) (fun _ => none) 0 (enT args 3) [] m r := by
  cases d with
  | zero => omega
  | succ d => exact uX9_isIn (Nat.le_of_ble_eq_true hf)
theorem wX9_put {args : List Value} (hd : 1 ≤ d) (hf : Nat.ble (enL args).length 3 = true) : Run d 144 args m r ↔ Ev (d - 1) 9 cX9_put (some .boolean) (fun _ => none) 0 (enT args 3) [] m r := by
  cases d with
  | zero => omega
  | succ d => exact uX9_put (Nat.le_of_ble_eq_true hf)
theorem wX9_readOne {args : List Value} (hd : 1 ≤ d) (hf : Nat.ble (enL args).length 3 = true) : Run d 145 args m r ↔ Ev (d - 1) 9 cX9_readOne (some .boolean) (fun _ => none) 0 (enT args 3) [] m r := by
  cases d with
  | zero => omega
  | succ d => exact uX9_readOne (Nat.le_of_ble_eq_true hf)
theorem wX9_isOne {args : List Value} (hd : 1 ≤ d) (hf : Nat.ble (enL args).length 3 = true) : Run d 146 args m r ↔ Ev (d - 1) 9 cX9_isOne (some .boolean) (fun _ => none) 0 (enT args 3) [] m r := by
  cases d with
  | zero => omega
  | succ d => exact uX9_isOne (Nat.le_of_ble_eq_true hf)
theorem wX9_readDish {args : List Value} (hd : 1 ≤ d) (hf : Nat.ble (enL args).length 2 = true) : Run d 147 args m r ↔ Ev (d - 1) 9 cX9_readDish (some .boolean) (fun _ => none) 0 (enT args 2) [] m r := by
  cases d with
  | zero => omega
  | succ d => exact uX9_readDish (Nat.le_of_ble_eq_true hf)
theorem wX9_readPlate {args : List Value} (hd : 1 ≤ d) (hf : Nat.ble (enL args).length 2 = true) : Run d 148 args m r ↔ Ev (d - 1) 9 cX9_readPlate (some .boolean) (fun _ => none) 0 (enT args 2) [] m r := by
  cases d with
  | zero => omega
  | succ d => exact uX9_readPlate (Nat.le_of_ble_eq_true hf)
theorem wX9_readLaw {args : List Value} (hd : 1 ≤ d) (hf : Nat.ble (enL args).length 2 = true) : Run d 149 args m r ↔ Ev (d - 1) 9 cX9_readLaw (some .boolean) (fun _ => none) 0 (enT args 2) [] m r := by
  cases d with
  | zero => omega
  | succ d => exact uX9_readLaw (Nat.le_of_ble_eq_true hf)
theorem wX9_readEnd {args : List Value} (hd : 1 ≤ d) (hf : Nat.ble (enL args).length 1 = true) : Run d 150 args m r ↔ Ev (d - 1) 9 cX9_readEnd (some .boolean) (fun _ => none) 0 (enT args 1) [] m r := by
  cases d with
  | zero => omega
  | succ d => exact uX9_readEnd (Nat.le_of_ble_eq_true hf)
theorem wX9_isSign {args : List Value} (hd : 1 ≤ d) (hf : Nat.ble (enL args).length 2 = true) : Run d 151 args m r ↔ Ev (d - 1) 9 cX9_isSign (some .boolean) (fun _ => none) 0 (enT args 2) [] m r := by
  cases d with
  | zero => omega
  | succ d => exact uX9_isSign (Nat.le_of_ble_eq_true hf)
theorem wX9_startSo {args : List Value} (hd : 1 ≤ d) (hf : Nat.ble (enL args).length 2 = true) : Run d 152 args m r ↔ Ev (d - 1) 9 cX9_startSo (none) (fun _ => none) 0 (enT args 2) [] m r := by
  cases d with
  | zero => omega
  | succ d => exact uX9_startSo (Nat.le_of_ble_eq_true hf)
theorem wX9_fault {args : List Value} (hd : 1 ≤ d) (hf : Nat.ble (enL args).length 1 = true) : Run d 153 args m r ↔ Ev (d - 1) 9 cX9_fault (some .int) (fun _ => none) 0 (enT args 1) [] m r := by
  cases d with
  | zero => omega
  | succ d => exact uX9_fault (Nat.le_of_ble_eq_true hf)
theorem wX9_person {args : List Value} (hd : 1 ≤ d) (hf : Nat.ble (enL args).length 5 = true) : Run d 154 args m r ↔ Ev (d - 1) 9 cX9_person (some .int) (fun _ => none) 0 (enT args 5) [] m r := by
  cases d with
  | zero => omega
  | succ d => exact uX9_person (Nat.le_of_ble_eq_true hf)
theorem wX9_isPerson {args : List Value} (hd : 1 ≤ d) (hf : Nat.ble (enL args).length 2 = true) : Run d 155 args m r ↔ Ev (d - 1) 9 cX9_isPerson (some .boolean) (fun _ => none) 0 (enT args 2) [] m r := by
  cases d with
  | zero => omega
  | succ d => exact uX9_isPerson (Nat.le_of_ble_eq_true hf)
theorem wX9_refuse {args : List Value} (hd : 1 ≤ d) (hf : Nat.ble (enL args).length 1 = true) : Run d 156 args m r ↔ Ev (d - 1) 9 cX9_refuse (some .int) (fun _ => none) 0 (enT args 1) [] m r := by
  cases d with
  | zero => omega
  | succ d => exact uX9_refuse (Nat.le_of_ble_eq_true hf)
theorem wX9_isDead {args : List Value} (hd : 1 ≤ d) (hf : Nat.ble (enL args).length 2 = true) : Run d 157 args m r ↔ Ev (d - 1) 9 cX9_isDead (some .boolean) (fun _ => none) 0 (enT args 2) [] m r := by
  cases d with
  | zero => omega
  | succ d => exact uX9_isDead (Nat.le_of_ble_eq_true hf)
theorem wX9_has {args : List Value} (hd : 1 ≤ d) (hf : Nat.ble (enL args).length 2 = true) : Run d 158 args m r ↔ Ev (d - 1) 9 cX9_has (some .boolean) (fun _ => none) 0 (enT args 2) [] m r := by
  cases d with
  | zero => omega
  | succ d => exact uX9_has (Nat.le_of_ble_eq_true hf)
theorem wX9_plateOf {args : List Value} (hd : 1 ≤ d) (hf : Nat.ble (enL args).length 4 = true) : Run d 159 args m r ↔ Ev (d - 1) 9 cX9_plateOf (some .int) (fun _ => none) 0 (enT args 4) [] m r := by
  cases d with
  | zero => omega
  | succ d => exact uX9_plateOf (Nat.le_of_ble_eq_true hf)
theorem wX9_onPlate {args : List Value} (hd : 1 ≤ d) (hf : Nat.ble (enL args).length 3 = true) : Run d 160 args m r ↔ Ev (d - 1) 9 cX9_onPlate (some .int) (fun _ => none) 0 (enT args 3) [] m r := by
  cases d with
  | zero => omega
  | succ d => exact uX9_onPlate (Nat.le_of_ble_eq_true hf)
theorem wX9_plate {args : List Value} (hd : 1 ≤ d) (hf : Nat.ble (enL args).length 3 = true) : Run d 161 args m r ↔ Ev (d - 1) 9 cX9_plate (some .int) (fun _ => none) 0 (enT args 3) [] m r := by
  cases d with
  | zero => omega
  | succ d => exact uX9_plate (Nat.le_of_ble_eq_true hf)
theorem wX9_isDish {args : List Value} (hd : 1 ≤ d) (hf : Nat.ble (enL args).length 2 = true) : Run d 162 args m r ↔ Ev (d - 1) 9 cX9_isDish (some .boolean) (fun _ => none) 0 (enT args 2) [] m r := by
  cases d with
  | zero => omega
  | succ d => exact uX9_isDish (Nat.le_of_ble_eq_true hf)
theorem wX9_dish {args : List Value} (hd : 1 ≤ d) (hf : Nat.ble (enL args).length 5 = true) : Run d 163 args m r ↔ Ev (d - 1) 9 cX9_dish (some .int) (fun _ => none) 0 (enT args 5) [] m r := by
  cases d with
  | zero => omega
  | succ d => exact uX9_dish (Nat.le_of_ble_eq_true hf)
theorem wX9_now {args : List Value} (hd : 1 ≤ d) (hf : Nat.ble (enL args).length 2 = true) : Run d 164 args m r ↔ Ev (d - 1) 9 cX9_now (some .int) (fun _ => none) 0 (enT args 2) [] m r := by
  cases d with
  | zero => omega
  | succ d => exact uX9_now (Nat.le_of_ble_eq_true hf)
theorem wX9_sumOf {args : List Value} (hd : 1 ≤ d) (hf : Nat.ble (enL args).length 4 = true) : Run d 165 args m r ↔ Ev (d - 1) 9 cX9_sumOf (some .int) (fun _ => none) 0 (enT args 4) [] m r := by
  cases d with
  | zero => omega
  | succ d => exact uX9_sumOf (Nat.le_of_ble_eq_true hf)
theorem wX9_heir {args : List Value} (hd : 1 ≤ d) (hf : Nat.ble (enL args).length 2 = true) : Run d 166 args m r ↔ Ev (d - 1) 9 cX9_heir (some .int) (fun _ => none) 0 (enT args 2) [] m r := by
  cases d with
  | zero => omega
  | succ d => exact uX9_heir (Nat.le_of_ble_eq_true hf)
theorem wX9_outs {args : List Value} (hd : 1 ≤ d) (hf : Nat.ble (enL args).length 1 = true) : Run d 167 args m r ↔ Ev (d - 1) 9 cX9_outs (some .int) (fun _ => none) 0 (enT args 1) [] m r := by
  cases d with
  | zero => omega
  | succ d => exact uX9_outs (Nat.le_of_ble_eq_true hf)
theorem wX9_heirBy {args : List Value} (hd : 1 ≤ d) (hf : Nat.ble (enL args).length 6 = true) : Run d 168 args m r ↔ Ev (d - 1) 9 cX9_heirBy (some .int) (fun _ => none) 0 (enT args 6) [] m r := by
  cases d with
  | zero => omega
  | succ d => exact uX9_heirBy (Nat.le_of_ble_eq_true hf)
theorem wX9_nextTo {args : List Value} (hd : 1 ≤ d) (hf : Nat.ble (enL args).length 5 = true) : Run d 169 args m r ↔ Ev (d - 1) 9 cX9_nextTo (some .int) (fun _ => none) 0 (enT args 5) [] m r := by
  cases d with
  | zero => omega
  | succ d => exact uX9_nextTo (Nat.le_of_ble_eq_true hf)
theorem wX9_line {args : List Value} (hd : 1 ≤ d) (hf : Nat.ble (enL args).length 6 = true) : Run d 170 args m r ↔ Ev (d - 1) 9 cX9_line (some .int) (fun _ => none) 0 (enT args 6) [] m r := by
  cases d with
  | zero => omega
  | succ d => exact uX9_line (Nat.le_of_ble_eq_true hf)
theorem wX9_eat {args : List Value} (hd : 1 ≤ d) (hf : Nat.ble (enL args).length 4 = true) : Run d 171 args m r ↔ Ev (d - 1) 9 cX9_eat (some .int) (fun _ => none) 0 (enT args 4) [] m r := by
  cases d with
  | zero => omega
  | succ d => exact uX9_eat (Nat.le_of_ble_eq_true hf)
theorem wX9_act {args : List Value} (hd : 1 ≤ d) (hf : Nat.ble (enL args).length 6 = true) : Run d 172 args m r ↔ Ev (d - 1) 9 cX9_act (some .int) (fun _ => none) 0 (enT args 6) [] m r := by
  cases d with
  | zero => omega
  | succ d => exact uX9_act (Nat.le_of_ble_eq_true hf)
theorem wX9_why {args : List Value} (hd : 1 ≤ d) (hf : Nat.ble (enL args).length 5 = true) : Run d 173 args m r ↔ Ev (d - 1) 9 cX9_why (some .int) (fun _ => none) 0 (enT args 5) [] m r := by
  cases d with
  | zero => omega
  | succ d => exact uX9_why (Nat.le_of_ble_eq_true hf)
theorem wX9_wantsYet {args : List Value} (hd : 1 ≤ d) (hf : Nat.ble (enL args).length 2 = true) : Run d 174 args m r ↔ Ev (d - 1) 9 cX9_wantsYet (some .int) (fun _ => none) 0 (enT args 2) [] m r := by
  cases d with
  | zero => omega
  | succ d => exact uX9_wantsYet (Nat.le_of_ble_eq_true hf)
theorem wX9_snap {args : List Value} (hd : 1 ≤ d) (hf : Nat.ble (enL args).length 2 = true) : Run d 175 args m r ↔ Ev (d - 1) 9 cX9_snap (none) (fun _ => none) 0 (enT args 2) [] m r := by
  cases d with
  | zero => omega
  | succ d => exact uX9_snap (Nat.le_of_ble_eq_true hf)
theorem wX9_live {args : List Value} (hd : 1 ≤ d) (hf : Nat.ble (enL args).length 5 = true) : Run d 176 args m r ↔ Ev (d - 1) 9 cX9_live (none) (fun _ => none) 0 (enT args 5) [] m r := by
  cases d with
  | zero => omega
  | succ d => exact uX9_live (Nat.le_of_ble_eq_true hf)
theorem wX9_doEat {args : List Value} (hd : 1 ≤ d) (hf : Nat.ble (enL args).length 4 = true) : Run d 177 args m r ↔ Ev (d - 1) 9 cX9_doEat (none) (fun _ => none) 0 (enT args 4) [] m r := by
  cases d with
  | zero => omega
  | succ d => exact uX9_doEat (Nat.le_of_ble_eq_true hf)
theorem wX9_pass {args : List Value} (hd : 1 ≤ d) (hf : Nat.ble (enL args).length 7 = true) : Run d 178 args m r ↔ Ev (d - 1) 9 cX9_pass (none) (fun _ => none) 0 (enT args 7) [] m r := by
  cases d with
  | zero => omega
  | succ d => exact uX9_pass (Nat.le_of_ble_eq_true hf)
theorem wX9_least {args : List Value} (hd : 1 ≤ d) (hf : Nat.ble (enL args).length 2 = true) : Run d 179 args m r ↔ Ev (d - 1) 9 cX9_least (some .int) (fun _ => none) 0 (enT args 2) [] m r := by
  cases d with
  | zero => omega
  | succ d => exact uX9_least (Nat.le_of_ble_eq_true hf)
theorem wX9_serve {args : List Value} (hd : 1 ≤ d) (hf : Nat.ble (enL args).length 4 = true) : Run d 180 args m r ↔ Ev (d - 1) 9 cX9_serve (some .int) (fun _ => none) 0 (enT args 4) [] m r := by
  cases d with
  | zero => omega
  | succ d => exact uX9_serve (Nat.le_of_ble_eq_true hf)
theorem wX9_rise {args : List Value} (hd : 1 ≤ d) (hf : Nat.ble (enL args).length 2 = true) : Run d 181 args m r ↔ Ev (d - 1) 9 cX9_rise (some .int) (fun _ => none) 0 (enT args 2) [] m r := by
  cases d with
  | zero => omega
  | succ d => exact uX9_rise (Nat.le_of_ble_eq_true hf)
theorem wX9_refuse_2 {args : List Value} (hd : 1 ≤ d) (hf : Nat.ble (enL args).length 2 = true) : Run d 182 args m r ↔ Ev (d - 1) 9 cX9_refuse_2 (some .int) (fun _ => none) 0 (enT args 2) [] m r := by
  cases d with
  | zero => omega
  | succ d => exact uX9_refuse_2 (Nat.le_of_ble_eq_true hf)
theorem wX9_accept {args : List Value} (hd : 1 ≤ d) (hf : Nat.ble (enL args).length 2 = true) : Run d 183 args m r ↔ Ev (d - 1) 9 cX9_accept (some .int) (fun _ => none) 0 (enT args 2) [] m r := by
  cases d with
  | zero => omega
  | succ d => exact uX9_accept (Nat.le_of_ble_eq_true hf)
theorem wX9_die {args : List Value} (hd : 1 ≤ d) (hf : Nat.ble (enL args).length 2 = true) : Run d 184 args m r ↔ Ev (d - 1) 9 cX9_die (some .int) (fun _ => none) 0 (enT args 2) [] m r := by
  cases d with
  | zero => omega
  | succ d => exact uX9_die (Nat.le_of_ble_eq_true hf)
theorem wX9_undo {args : List Value} (hd : 1 ≤ d) (hf : Nat.ble (enL args).length 2 = true) : Run d 185 args m r ↔ Ev (d - 1) 9 cX9_undo (some .int) (fun _ => none) 0 (enT args 2) [] m r := by
  cases d with
  | zero => omega
  | succ d => exact uX9_undo (Nat.le_of_ble_eq_true hf)
theorem wX9_meals {args : List Value} (hd : 1 ≤ d) (hf : Nat.ble (enL args).length 2 = true) : Run d 186 args m r ↔ Ev (d - 1) 9 cX9_meals (some .int) (fun _ => none) 0 (enT args 2) [] m r := by
  cases d with
  | zero => omega
  | succ d => exact uX9_meals (Nat.le_of_ble_eq_true hf)
theorem wX9_passMeals {args : List Value} (hd : 1 ≤ d) (hf : Nat.ble (enL args).length 4 = true) : Run d 187 args m r ↔ Ev (d - 1) 9 cX9_passMeals (some .int) (fun _ => none) 0 (enT args 4) [] m r := by
  cases d with
  | zero => omega
  | succ d => exact uX9_passMeals (Nat.le_of_ble_eq_true hf)
theorem wX9_oneMeal {args : List Value} (hd : 1 ≤ d) (hf : Nat.ble (enL args).length 4 = true) : Run d 188 args m r ↔ Ev (d - 1) 9 cX9_oneMeal (none) (fun _ => none) 0 (enT args 4) [] m r := by
  cases d with
  | zero => omega
  | succ d => exact uX9_oneMeal (Nat.le_of_ble_eq_true hf)
theorem wX9_order {args : List Value} (hd : 1 ≤ d) (hf : Nat.ble (enL args).length 1 = true) : Run d 189 args m r ↔ Ev (d - 1) 9 cX9_order (some .int) (fun _ => none) 0 (enT args 1) [] m r := by
  cases d with
  | zero => omega
  | succ d => exact uX9_order (Nat.le_of_ble_eq_true hf)
theorem wX9_living {args : List Value} (hd : 1 ≤ d) (hf : Nat.ble (enL args).length 1 = true) : Run d 190 args m r ↔ Ev (d - 1) 9 cX9_living (some .int) (fun _ => none) 0 (enT args 1) [] m r := by
  cases d with
  | zero => omega
  | succ d => exact uX9_living (Nat.le_of_ble_eq_true hf)
theorem wX9_bits {args : List Value} (hd : 1 ≤ d) (hf : Nat.ble (enL args).length 3 = true) : Run d 191 args m r ↔ Ev (d - 1) 9 cX9_bits (some .int) (fun _ => none) 0 (enT args 3) [] m r := by
  cases d with
  | zero => omega
  | succ d => exact uX9_bits (Nat.le_of_ble_eq_true hf)
theorem wX9_orderFrom {args : List Value} (hd : 1 ≤ d) (hf : Nat.ble (enL args).length 5 = true) : Run d 192 args m r ↔ Ev (d - 1) 9 cX9_orderFrom (none) (fun _ => none) 0 (enT args 5) [] m r := by
  cases d with
  | zero => omega
  | succ d => exact uX9_orderFrom (Nat.le_of_ble_eq_true hf)
theorem wX9_eatsAll {args : List Value} (hd : 1 ≤ d) (hf : Nat.ble (enL args).length 3 = true) : Run d 193 args m r ↔ Ev (d - 1) 9 cX9_eatsAll (none) (fun _ => none) 0 (enT args 3) [] m r := by
  cases d with
  | zero => omega
  | succ d => exact uX9_eatsAll (Nat.le_of_ble_eq_true hf)
theorem wX9_orderAt {args : List Value} (hd : 1 ≤ d) (hf : Nat.ble (enL args).length 2 = true) : Run d 194 args m r ↔ Ev (d - 1) 9 cX9_orderAt (some .int) (fun _ => none) 0 (enT args 2) [] m r := by
  cases d with
  | zero => omega
  | succ d => exact uX9_orderAt (Nat.le_of_ble_eq_true hf)
theorem wX9_eaters {args : List Value} (hd : 1 ≤ d) (hf : Nat.ble (enL args).length 6 = true) : Run d 195 args m r ↔ Ev (d - 1) 9 cX9_eaters (some .int) (fun _ => none) 0 (enT args 6) [] m r := by
  cases d with
  | zero => omega
  | succ d => exact uX9_eaters (Nat.le_of_ble_eq_true hf)
theorem wX9_size {args : List Value} (hd : 1 ≤ d) (hf : Nat.ble (enL args).length 1 = true) : Run d 196 args m r ↔ Ev (d - 1) 9 cX9_size (some .int) (fun _ => none) 0 (enT args 1) [] m r := by
  cases d with
  | zero => omega
  | succ d => exact uX9_size (Nat.le_of_ble_eq_true hf)
theorem wX9_surely {args : List Value} (hd : 1 ≤ d) (hf : Nat.ble (enL args).length 1 = true) : Run d 197 args m r ↔ Ev (d - 1) 9 cX9_surely (some .int) (fun _ => none) 0 (enT args 1) [] m r := by
  cases d with
  | zero => omega
  | succ d => exact uX9_surely (Nat.le_of_ble_eq_true hf)
theorem wX9_ask {args : List Value} (hd : 1 ≤ d) (hf : Nat.ble (enL args).length 1 = true) : Run d 198 args m r ↔ Ev (d - 1) 9 cX9_ask (some .int) (fun _ => none) 0 (enT args 1) [] m r := by
  cases d with
  | zero => omega
  | succ d => exact uX9_ask (Nat.le_of_ble_eq_true hf)
theorem wX9_share {args : List Value} (hd : 1 ≤ d) (hf : Nat.ble (enL args).length 11 = true) : Run d 199 args m r ↔ Ev (d - 1) 9 cX9_share (some .int) (fun _ => none) 0 (enT args 11) [] m r := by
  cases d with
  | zero => omega
  | succ d => exact uX9_share (Nat.le_of_ble_eq_true hf)
theorem wX9_last {args : List Value} (hd : 1 ≤ d) (hf : Nat.ble (enL args).length 6 = true) : Run d 200 args m r ↔ Ev (d - 1) 9 cX9_last (some .int) (fun _ => none) 0 (enT args 6) [] m r := by
  cases d with
  | zero => omega
  | succ d => exact uX9_last (Nat.le_of_ble_eq_true hf)
theorem wX9_seats {args : List Value} (hd : 1 ≤ d) (hf : Nat.ble (enL args).length 1 = true) : Run d 201 args m r ↔ Ev (d - 1) 9 cX9_seats (some .int) (fun _ => none) 0 (enT args 1) [] m r := by
  cases d with
  | zero => omega
  | succ d => exact uX9_seats (Nat.le_of_ble_eq_true hf)
theorem wX9_seatFrom {args : List Value} (hd : 1 ≤ d) (hf : Nat.ble (enL args).length 5 = true) : Run d 202 args m r ↔ Ev (d - 1) 9 cX9_seatFrom (none) (fun _ => none) 0 (enT args 5) [] m r := by
  cases d with
  | zero => omega
  | succ d => exact uX9_seatFrom (Nat.le_of_ble_eq_true hf)
theorem wX9_seatAt {args : List Value} (hd : 1 ≤ d) (hf : Nat.ble (enL args).length 2 = true) : Run d 203 args m r ↔ Ev (d - 1) 9 cX9_seatAt (some .int) (fun _ => none) 0 (enT args 2) [] m r := by
  cases d with
  | zero => omega
  | succ d => exact uX9_seatAt (Nat.le_of_ble_eq_true hf)
theorem wX9_left {args : List Value} (hd : 1 ≤ d) (hf : Nat.ble (enL args).length 4 = true) : Run d 204 args m r ↔ Ev (d - 1) 9 cX9_left (some .int) (fun _ => none) 0 (enT args 4) [] m r := by
  cases d with
  | zero => omega
  | succ d => exact uX9_left (Nat.le_of_ble_eq_true hf)
theorem wX9_layAside {args : List Value} (hd : 1 ≤ d) (hf : Nat.ble (enL args).length 2 = true) : Run d 205 args m r ↔ Ev (d - 1) 9 cX9_layAside (none) (fun _ => none) 0 (enT args 2) [] m r := by
  cases d with
  | zero => omega
  | succ d => exact uX9_layAside (Nat.le_of_ble_eq_true hf)
theorem wX9_takeBack {args : List Value} (hd : 1 ≤ d) (hf : Nat.ble (enL args).length 2 = true) : Run d 206 args m r ↔ Ev (d - 1) 9 cX9_takeBack (none) (fun _ => none) 0 (enT args 2) [] m r := by
  cases d with
  | zero => omega
  | succ d => exact uX9_takeBack (Nat.le_of_ble_eq_true hf)
theorem wX9_kin {args : List Value} (hd : 1 ≤ d) (hf : Nat.ble (enL args).length 8 = true) : Run d 207 args m r ↔ Ev (d - 1) 9 cX9_kin (some .int) (fun _ => none) 0 (enT args 8) [] m r := by
  cases d with
  | zero => omega
  | succ d => exact uX9_kin (Nat.le_of_ble_eq_true hf)
theorem wX9_hungriest {args : List Value} (hd : 1 ≤ d) (hf : Nat.ble (enL args).length 3 = true) : Run d 208 args m r ↔ Ev (d - 1) 9 cX9_hungriest (some .int) (fun _ => none) 0 (enT args 3) [] m r := by
  cases d with
  | zero => omega
  | succ d => exact uX9_hungriest (Nat.le_of_ble_eq_true hf)
theorem wX9_will {args : List Value} (hd : 1 ≤ d) (hf : Nat.ble (enL args).length 3 = true) : Run d 209 args m r ↔ Ev (d - 1) 9 cX9_will (some .int) (fun _ => none) 0 (enT args 3) [] m r := by
  cases d with
  | zero => omega
  | succ d => exact uX9_will (Nat.le_of_ble_eq_true hf)
theorem wX9_writeWord {args : List Value} (hd : 1 ≤ d) (hf : Nat.ble (enL args).length 3 = true) : Run d 210 args m r ↔ Ev (d - 1) 9 cX9_writeWord (none) (fun _ => none) 0 (enT args 3) [] m r := by
  cases d with
  | zero => omega
  | succ d => exact uX9_writeWord (Nat.le_of_ble_eq_true hf)
theorem wX9_write {args : List Value} (hd : 1 ≤ d) (hf : Nat.ble (enL args).length 2 = true) : Run d 211 args m r ↔ Ev (d - 1) 9 cX9_write (none) (fun _ => none) 0 (enT args 2) [] m r := by
  cases d with
  | zero => omega
  | succ d => exact uX9_write (Nat.le_of_ble_eq_true hf)
theorem wX9_writeNext {args : List Value} (hd : 1 ≤ d) (hf : Nat.ble (enL args).length 3 = true) : Run d 212 args m r ↔ Ev (d - 1) 9 cX9_writeNext (none) (fun _ => none) 0 (enT args 3) [] m r := by
  cases d with
  | zero => omega
  | succ d => exact uX9_writeNext (Nat.le_of_ble_eq_true hf)
theorem wX9_writeNumber {args : List Value} (hd : 1 ≤ d) (hf : Nat.ble (enL args).length 2 = true) : Run d 213 args m r ↔ Ev (d - 1) 9 cX9_writeNumber (none) (fun _ => none) 0 (enT args 2) [] m r := by
  cases d with
  | zero => omega
  | succ d => exact uX9_writeNumber (Nat.le_of_ble_eq_true hf)
theorem wX9_byteAt {args : List Value} (hd : 1 ≤ d) (hf : Nat.ble (enL args).length 2 = true) : Run d 214 args m r ↔ Ev (d - 1) 9 cX9_byteAt (some .int) (fun _ => none) 0 (enT args 2) [] m r := by
  cases d with
  | zero => omega
  | succ d => exact uX9_byteAt (Nat.le_of_ble_eq_true hf)
theorem wX9_drawn {args : List Value} (hd : 1 ≤ d) (hf : Nat.ble (enL args).length 3 = true) : Run d 215 args m r ↔ Ev (d - 1) 9 cX9_drawn (some .int) (fun _ => none) 0 (enT args 3) [] m r := by
  cases d with
  | zero => omega
  | succ d => exact uX9_drawn (Nat.le_of_ble_eq_true hf)
theorem wX9_drawMeals {args : List Value} (hd : 1 ≤ d) (hf : Nat.ble (enL args).length 7 = true) : Run d 216 args m r ↔ Ev (d - 1) 9 cX9_drawMeals (some .int) (fun _ => none) 0 (enT args 7) [] m r := by
  cases d with
  | zero => omega
  | succ d => exact uX9_drawMeals (Nat.le_of_ble_eq_true hf)
theorem wX9_draw {args : List Value} (hd : 1 ≤ d) (hf : Nat.ble (enL args).length 2 = true) : Run d 217 args m r ↔ Ev (d - 1) 9 cX9_draw (some .int) (fun _ => none) 0 (enT args 2) [] m r := by
  cases d with
  | zero => omega
  | succ d => exact uX9_draw (Nat.le_of_ble_eq_true hf)
theorem wX9_odds {args : List Value} (hd : 1 ≤ d) (hf : Nat.ble (enL args).length 6 = true) : Run d 218 args m r ↔ Ev (d - 1) 9 cX9_odds (some .int) (fun _ => none) 0 (enT args 6) [] m r := by
  cases d with
  | zero => omega
  | succ d => exact uX9_odds (Nat.le_of_ble_eq_true hf)
theorem wX9_book {args : List Value} (hd : 1 ≤ d) (hf : Nat.ble (enL args).length 4 = true) : Run d 219 args m r ↔ Ev (d - 1) 9 cX9_book (some .int) (fun _ => none) 0 (enT args 4) [] m r := by
  cases d with
  | zero => omega
  | succ d => exact uX9_book (Nat.le_of_ble_eq_true hf)
theorem wX9_readBookLine {args : List Value} (hd : 1 ≤ d) (hf : Nat.ble (enL args).length 3 = true) : Run d 220 args m r ↔ Ev (d - 1) 9 cX9_readBookLine (some .boolean) (fun _ => none) 0 (enT args 3) [] m r := by
  cases d with
  | zero => omega
  | succ d => exact uX9_readBookLine (Nat.le_of_ble_eq_true hf)
theorem wX9_readDoes {args : List Value} (hd : 1 ≤ d) (hf : Nat.ble (enL args).length 3 = true) : Run d 221 args m r ↔ Ev (d - 1) 9 cX9_readDoes (some .boolean) (fun _ => none) 0 (enT args 3) [] m r := by
  cases d with
  | zero => omega
  | succ d => exact uX9_readDoes (Nat.le_of_ble_eq_true hf)
theorem wX9_goBy {args : List Value} (hd : 1 ≤ d) (hf : Nat.ble (enL args).length 4 = true) : Run d 222 args m r ↔ Ev (d - 1) 9 cX9_goBy (some .int) (fun _ => none) 0 (enT args 4) [] m r := by
  cases d with
  | zero => omega
  | succ d => exact uX9_goBy (Nat.le_of_ble_eq_true hf)
theorem wX9_stay {args : List Value} (hd : 1 ≤ d) (hf : Nat.ble (enL args).length 4 = true) : Run d 223 args m r ↔ Ev (d - 1) 9 cX9_stay (none) (fun _ => none) 0 (enT args 4) [] m r := by
  cases d with
  | zero => omega
  | succ d => exact uX9_stay (Nat.le_of_ble_eq_true hf)
theorem wX9_told {args : List Value} (hd : 1 ≤ d) (hf : Nat.ble (enL args).length 2 = true) : Run d 224 args m r ↔ Ev (d - 1) 9 cX9_told (some .int) (fun _ => none) 0 (enT args 2) [] m r := by
  cases d with
  | zero => omega
  | succ d => exact uX9_told (Nat.le_of_ble_eq_true hf)
theorem wX9_sentence {args : List Value} (hd : 1 ≤ d) (hf : Nat.ble (enL args).length 2 = true) : Run d 225 args m r ↔ Ev (d - 1) 9 cX9_sentence (some .int) (fun _ => none) 0 (enT args 2) [] m r := by
  cases d with
  | zero => omega
  | succ d => exact uX9_sentence (Nat.le_of_ble_eq_true hf)
theorem wX9_readOr {args : List Value} (hd : 1 ≤ d) (hf : Nat.ble (enL args).length 2 = true) : Run d 226 args m r ↔ Ev (d - 1) 9 cX9_readOr (some .boolean) (fun _ => none) 0 (enT args 2) [] m r := by
  cases d with
  | zero => omega
  | succ d => exact uX9_readOr (Nat.le_of_ble_eq_true hf)
theorem wX9_readAnd {args : List Value} (hd : 1 ≤ d) (hf : Nat.ble (enL args).length 2 = true) : Run d 227 args m r ↔ Ev (d - 1) 9 cX9_readAnd (some .boolean) (fun _ => none) 0 (enT args 2) [] m r := by
  cases d with
  | zero => omega
  | succ d => exact uX9_readAnd (Nat.le_of_ble_eq_true hf)
theorem wX9_readSaid {args : List Value} (hd : 1 ≤ d) (hf : Nat.ble (enL args).length 4 = true) : Run d 228 args m r ↔ Ev (d - 1) 9 cX9_readSaid (some .boolean) (fun _ => none) 0 (enT args 4) [] m r := by
  cases d with
  | zero => omega
  | succ d => exact uX9_readSaid (Nat.le_of_ble_eq_true hf)
theorem wX9_readBracket {args : List Value} (hd : 1 ≤ d) (hf : Nat.ble (enL args).length 1 = true) : Run d 229 args m r ↔ Ev (d - 1) 9 cX9_readBracket (some .boolean) (fun _ => none) 0 (enT args 1) [] m r := by
  cases d with
  | zero => omega
  | succ d => exact uX9_readBracket (Nat.le_of_ble_eq_true hf)
theorem wX9_readNot {args : List Value} (hd : 1 ≤ d) (hf : Nat.ble (enL args).length 1 = true) : Run d 230 args m r ↔ Ev (d - 1) 9 cX9_readNot (some .boolean) (fun _ => none) 0 (enT args 1) [] m r := by
  cases d with
  | zero => omega
  | succ d => exact uX9_readNot (Nat.le_of_ble_eq_true hf)
theorem wX9_saysOne {args : List Value} (hd : 1 ≤ d) (hf : Nat.ble (enL args).length 6 = true) : Run d 231 args m r ↔ Ev (d - 1) 9 cX9_saysOne (some .int) (fun _ => none) 0 (enT args 6) [] m r := by
  cases d with
  | zero => omega
  | succ d => exact uX9_saysOne (Nat.le_of_ble_eq_true hf)
theorem wX9_readOf {args : List Value} (hd : 1 ≤ d) (hf : Nat.ble (enL args).length 2 = true) : Run d 232 args m r ↔ Ev (d - 1) 9 cX9_readOf (some .boolean) (fun _ => none) 0 (enT args 2) [] m r := by
  cases d with
  | zero => omega
  | succ d => exact uX9_readOf (Nat.le_of_ble_eq_true hf)
theorem wX9_readNamed {args : List Value} (hd : 1 ≤ d) (hf : Nat.ble (enL args).length 3 = true) : Run d 233 args m r ↔ Ev (d - 1) 9 cX9_readNamed (some .boolean) (fun _ => none) 0 (enT args 3) [] m r := by
  cases d with
  | zero => omega
  | succ d => exact uX9_readNamed (Nat.le_of_ble_eq_true hf)
theorem wX9_readCompare {args : List Value} (hd : 1 ≤ d) (hf : Nat.ble (enL args).length 3 = true) : Run d 234 args m r ↔ Ev (d - 1) 9 cX9_readCompare (some .boolean) (fun _ => none) 0 (enT args 3) [] m r := by
  cases d with
  | zero => omega
  | succ d => exact uX9_readCompare (Nat.le_of_ble_eq_true hf)
theorem wX9_said {args : List Value} (hd : 1 ≤ d) (hf : Nat.ble (enL args).length 4 = true) : Run d 235 args m r ↔ Ev (d - 1) 9 cX9_said (some .int) (fun _ => none) 0 (enT args 4) [] m r := by
  cases d with
  | zero => omega
  | succ d => exact uX9_said (Nat.le_of_ble_eq_true hf)
theorem wX9_holds {args : List Value} (hd : 1 ≤ d) (hf : Nat.ble (enL args).length 8 = true) : Run d 236 args m r ↔ Ev (d - 1) 9 cX9_holds (some .boolean) (fun _ => none) 0 (enT args 8) [] m r := by
  cases d with
  | zero => omega
  | succ d => exact uX9_holds (Nat.le_of_ble_eq_true hf)
theorem wX9_image {args : List Value} (hd : 1 ≤ d) (hf : Nat.ble (enL args).length 3 = true) : Run d 237 args m r ↔ Ev (d - 1) 9 cX9_image (some .boolean) (fun _ => none) 0 (enT args 3) [] m r := by
  cases d with
  | zero => omega
  | succ d => exact uX9_image (Nat.le_of_ble_eq_true hf)
theorem wX9_restore {args : List Value} (hd : 1 ≤ d) (hf : Nat.ble (enL args).length 3 = true) : Run d 238 args m r ↔ Ev (d - 1) 9 cX9_restore (some .boolean) (fun _ => none) 0 (enT args 3) [] m r := by
  cases d with
  | zero => omega
  | succ d => exact uX9_restore (Nat.le_of_ble_eq_true hf)
theorem wX9_count {args : List Value} (hd : 1 ≤ d) (hf : Nat.ble (enL args).length 2 = true) : Run d 239 args m r ↔ Ev (d - 1) 9 cX9_count (some .int) (fun _ => none) 0 (enT args 2) [] m r := by
  cases d with
  | zero => omega
  | succ d => exact uX9_count (Nat.le_of_ble_eq_true hf)
theorem wX10_init {args : List Value} (hd : 1 ≤ d) (hf : Nat.ble (enL args).length 1 = true) : Run d 240 args m r ↔ Ev (d - 1) 110 cX10_init (none) (fun _ => none) 0 (enT args 1) [] m r := by
  cases d with
  | zero => omega
  | succ d => exact uX10_init (Nat.le_of_ble_eq_true hf)
theorem wX10_coded {args : List Value} (hd : 1 ≤ d) (hf : Nat.ble (enL args).length 2 = true) : Run d 241 args m r ↔ Ev (d - 1) 10 cX10_coded (some .int) (fun _ => none) 0 (enT args 2) [] m r := by
  cases d with
  | zero => omega
  | succ d => exact uX10_coded (Nat.le_of_ble_eq_true hf)
theorem wX11_init {args : List Value} (hd : 1 ≤ d) (hf : Nat.ble (enL args).length 2 = true) : Run d 242 args m r ↔ Ev (d - 1) 111 cX11_init (none) (fun _ => none) 0 (enT args 2) [] m r := by
  cases d with
  | zero => omega
  | succ d => exact uX11_init (Nat.le_of_ble_eq_true hf)
theorem wX11_why {args : List Value} (hd : 1 ≤ d) (hf : Nat.ble (enL args).length 3 = true) : Run d 243 args m r ↔ Ev (d - 1) 11 cX11_why (some .int) (fun _ => none) 0 (enT args 3) [] m r := by
  cases d with
  | zero => omega
  | succ d => exact uX11_why (Nat.le_of_ble_eq_true hf)
theorem wX11_live {args : List Value} (hd : 1 ≤ d) (hf : Nat.ble (enL args).length 3 = true) : Run d 244 args m r ↔ Ev (d - 1) 11 cX11_live (none) (fun _ => none) 0 (enT args 3) [] m r := by
  cases d with
  | zero => omega
  | succ d => exact uX11_live (Nat.le_of_ble_eq_true hf)
theorem wX12_init {args : List Value} (hd : 1 ≤ d) (hf : Nat.ble (enL args).length 4 = true) : Run d 245 args m r ↔ Ev (d - 1) 112 cX12_init (none) (fun _ => none) 0 (enT args 4) [] m r := by
  cases d with
  | zero => omega
  | succ d => exact uX12_init (Nat.le_of_ble_eq_true hf)
theorem wX12_why {args : List Value} (hd : 1 ≤ d) (hf : Nat.ble (enL args).length 3 = true) : Run d 246 args m r ↔ Ev (d - 1) 12 cX12_why (some .int) (fun _ => none) 0 (enT args 3) [] m r := by
  cases d with
  | zero => omega
  | succ d => exact uX12_why (Nat.le_of_ble_eq_true hf)
theorem wX12_live {args : List Value} (hd : 1 ≤ d) (hf : Nat.ble (enL args).length 3 = true) : Run d 247 args m r ↔ Ev (d - 1) 12 cX12_live (none) (fun _ => none) 0 (enT args 3) [] m r := by
  cases d with
  | zero => omega
  | succ d => exact uX12_live (Nat.le_of_ble_eq_true hf)
theorem wX13_init {args : List Value} (hd : 1 ≤ d) (hf : Nat.ble (enL args).length 4 = true) : Run d 248 args m r ↔ Ev (d - 1) 113 cX13_init (none) (fun _ => none) 0 (enT args 4) [] m r := by
  cases d with
  | zero => omega
  | succ d => exact uX13_init (Nat.le_of_ble_eq_true hf)
theorem wX13_why {args : List Value} (hd : 1 ≤ d) (hf : Nat.ble (enL args).length 3 = true) : Run d 249 args m r ↔ Ev (d - 1) 13 cX13_why (some .int) (fun _ => none) 0 (enT args 3) [] m r := by
  cases d with
  | zero => omega
  | succ d => exact uX13_why (Nat.le_of_ble_eq_true hf)
theorem wX13_live {args : List Value} (hd : 1 ≤ d) (hf : Nat.ble (enL args).length 3 = true) : Run d 250 args m r ↔ Ev (d - 1) 13 cX13_live (none) (fun _ => none) 0 (enT args 3) [] m r := by
  cases d with
  | zero => omega
  | succ d => exact uX13_live (Nat.le_of_ble_eq_true hf)
theorem wX14_init {args : List Value} (hd : 1 ≤ d) (hf : Nat.ble (enL args).length 2 = true) : Run d 251 args m r ↔ Ev (d - 1) 114 cX14_init (none) (fun _ => none) 0 (enT args 2) [] m r := by
  cases d with
  | zero => omega
  | succ d => exact uX14_init (Nat.le_of_ble_eq_true hf)
theorem wX14_why {args : List Value} (hd : 1 ≤ d) (hf : Nat.ble (enL args).length 3 = true) : Run d 252 args m r ↔ Ev (d - 1) 14 cX14_why (some .int) (fun _ => none) 0 (enT args 3) [] m r := by
  cases d with
  | zero => omega
  | succ d => exact uX14_why (Nat.le_of_ble_eq_true hf)
theorem wX14_live {args : List Value} (hd : 1 ≤ d) (hf : Nat.ble (enL args).length 3 = true) : Run d 253 args m r ↔ Ev (d - 1) 14 cX14_live (none) (fun _ => none) 0 (enT args 3) [] m r := by
  cases d with
  | zero => omega
  | succ d => exact uX14_live (Nat.le_of_ble_eq_true hf)
theorem wX15_init {args : List Value} (hd : 1 ≤ d) (hf : Nat.ble (enL args).length 2 = true) : Run d 254 args m r ↔ Ev (d - 1) 115 cX15_init (none) (fun _ => none) 0 (enT args 2) [] m r := by
  cases d with
  | zero => omega
  | succ d => exact uX15_init (Nat.le_of_ble_eq_true hf)
theorem wX15_why {args : List Value} (hd : 1 ≤ d) (hf : Nat.ble (enL args).length 3 = true) : Run d 255 args m r ↔ Ev (d - 1) 15 cX15_why (some .int) (fun _ => none) 0 (enT args 3) [] m r := by
  cases d with
  | zero => omega
  | succ d => exact uX15_why (Nat.le_of_ble_eq_true hf)
theorem wX15_live {args : List Value} (hd : 1 ≤ d) (hf : Nat.ble (enL args).length 3 = true) : Run d 256 args m r ↔ Ev (d - 1) 15 cX15_live (none) (fun _ => none) 0 (enT args 3) [] m r := by
  cases d with
  | zero => omega
  | succ d => exact uX15_live (Nat.le_of_ble_eq_true hf)
theorem wX16_init {args : List Value} (hd : 1 ≤ d) (hf : Nat.ble (enL args).length 2 = true) : Run d 257 args m r ↔ Ev (d - 1) 116 cX16_init (none) (fun _ => none) 0 (enT args 2) [] m r := by
  cases d with
  | zero => omega
  | succ d => exact uX16_init (Nat.le_of_ble_eq_true hf)
theorem wX16_why {args : List Value} (hd : 1 ≤ d) (hf : Nat.ble (enL args).length 3 = true) : Run d 258 args m r ↔ Ev (d - 1) 16 cX16_why (some .int) (fun _ => none) 0 (enT args 3) [] m r := by
  cases d with
  | zero => omega
  | succ d => exact uX16_why (Nat.le_of_ble_eq_true hf)
theorem wX16_live {args : List Value} (hd : 1 ≤ d) (hf : Nat.ble (enL args).length 3 = true) : Run d 259 args m r ↔ Ev (d - 1) 16 cX16_live (none) (fun _ => none) 0 (enT args 3) [] m r := by
  cases d with
  | zero => omega
  | succ d => exact uX16_live (Nat.le_of_ble_eq_true hf)
theorem wX17_init {args : List Value} (hd : 1 ≤ d) (hf : Nat.ble (enL args).length 2 = true) : Run d 260 args m r ↔ Ev (d - 1) 117 cX17_init (none) (fun _ => none) 0 (enT args 2) [] m r := by
  cases d with
  | zero => omega
  | succ d => exact uX17_init (Nat.le_of_ble_eq_true hf)
theorem wX17_why {args : List Value} (hd : 1 ≤ d) (hf : Nat.ble (enL args).length 3 = true) : Run d 261 args m r ↔ Ev (d - 1) 17 cX17_why (some .int) (fun _ => none) 0 (enT args 3) [] m r := by
  cases d with
  | zero => omega
  | succ d => exact uX17_why (Nat.le_of_ble_eq_true hf)
theorem wX17_live {args : List Value} (hd : 1 ≤ d) (hf : Nat.ble (enL args).length 3 = true) : Run d 262 args m r ↔ Ev (d - 1) 17 cX17_live (none) (fun _ => none) 0 (enT args 3) [] m r := by
  cases d with
  | zero => omega
  | succ d => exact uX17_live (Nat.le_of_ble_eq_true hf)
theorem wX18_init {args : List Value} (hd : 1 ≤ d) (hf : Nat.ble (enL args).length 2 = true) : Run d 263 args m r ↔ Ev (d - 1) 118 cX18_init (none) (fun _ => none) 0 (enT args 2) [] m r := by
  cases d with
  | zero => omega
  | succ d => exact uX18_init (Nat.le_of_ble_eq_true hf)
theorem wX18_is {args : List Value} (hd : 1 ≤ d) (hf : Nat.ble (enL args).length 3 = true) : Run d 264 args m r ↔ Ev (d - 1) 18 cX18_is (some .boolean) (fun _ => none) 0 (enT args 3) [] m r := by
  cases d with
  | zero => omega
  | succ d => exact uX18_is (Nat.le_of_ble_eq_true hf)
theorem wX19_init {args : List Value} (hd : 1 ≤ d) (hf : Nat.ble (enL args).length 3 = true) : Run d 265 args m r ↔ Ev (d - 1) 119 cX19_init (none) (fun _ => none) 0 (enT args 3) [] m r := by
  cases d with
  | zero => omega
  | succ d => exact uX19_init (Nat.le_of_ble_eq_true hf)
theorem wX19_is {args : List Value} (hd : 1 ≤ d) (hf : Nat.ble (enL args).length 3 = true) : Run d 266 args m r ↔ Ev (d - 1) 19 cX19_is (some .boolean) (fun _ => none) 0 (enT args 3) [] m r := by
  cases d with
  | zero => omega
  | succ d => exact uX19_is (Nat.le_of_ble_eq_true hf)
theorem wX20_init {args : List Value} (hd : 1 ≤ d) (hf : Nat.ble (enL args).length 4 = true) : Run d 267 args m r ↔ Ev (d - 1) 120 cX20_init (none) (fun _ => none) 0 (enT args 4) [] m r := by
  cases d with
  | zero => omega
  | succ d => exact uX20_init (Nat.le_of_ble_eq_true hf)
theorem wX20_is {args : List Value} (hd : 1 ≤ d) (hf : Nat.ble (enL args).length 4 = true) : Run d 268 args m r ↔ Ev (d - 1) 20 cX20_is (some .boolean) (fun _ => none) 0 (enT args 4) [] m r := by
  cases d with
  | zero => omega
  | succ d => exact uX20_is (Nat.le_of_ble_eq_true hf)
theorem wX21_init {args : List Value} (hd : 1 ≤ d) (hf : Nat.ble (enL args).length 3 = true) : Run d 269 args m r ↔ Ev (d - 1) 121 cX21_init (none) (fun _ => none) 0 (enT args 3) [] m r := by
  cases d with
  | zero => omega
  | succ d => exact uX21_init (Nat.le_of_ble_eq_true hf)
theorem wX21_is {args : List Value} (hd : 1 ≤ d) (hf : Nat.ble (enL args).length 3 = true) : Run d 270 args m r ↔ Ev (d - 1) 21 cX21_is (some .boolean) (fun _ => none) 0 (enT args 3) [] m r := by
  cases d with
  | zero => omega
  | succ d => exact uX21_is (Nat.le_of_ble_eq_true hf)
theorem wX22_init {args : List Value} (hd : 1 ≤ d) (hf : Nat.ble (enL args).length 3 = true) : Run d 271 args m r ↔ Ev (d - 1) 122 cX22_init (none) (fun _ => none) 0 (enT args 3) [] m r := by
  cases d with
  | zero => omega
  | succ d => exact uX22_init (Nat.le_of_ble_eq_true hf)
theorem wX22_is {args : List Value} (hd : 1 ≤ d) (hf : Nat.ble (enL args).length 3 = true) : Run d 272 args m r ↔ Ev (d - 1) 22 cX22_is (some .boolean) (fun _ => none) 0 (enT args 3) [] m r := by
  cases d with
  | zero => omega
  | succ d => exact uX22_is (Nat.le_of_ble_eq_true hf)
theorem wX23_init {args : List Value} (hd : 1 ≤ d) (hf : Nat.ble (enL args).length 1 = true) : Run d 273 args m r ↔ Ev (d - 1) 123 cX23_init (none) (fun _ => none) 0 (enT args 1) [] m r := by
  cases d with
  | zero => omega
  | succ d => exact uX23_init (Nat.le_of_ble_eq_true hf)
theorem wJ0_init {args : List Value} (hd : 1 ≤ d) (hf : Nat.ble (enL args).length 1 = true) : Run d 274 args m r ↔ Ev (d - 1) 130 cJ0_init (none) (fun _ => none) 0 (enT args 1) [] m r := by
  cases d with
  | zero => omega
  | succ d => exact uJ0_init (Nat.le_of_ble_eq_true hf)
theorem wJ0_init_2 {args : List Value} (hd : 1 ≤ d) (hf : Nat.ble (enL args).length 5 = true) : Run d 275 args m r ↔ Ev (d - 1) 130 cJ0_init_2 (none) (fun _ => none) 0 (enT args 5) [] m r := by
  cases d with
  | zero => omega
  | succ d => exact uJ0_init_2 (Nat.le_of_ble_eq_true hf)
theorem wJ1_init {args : List Value} (hd : 1 ≤ d) (hf : Nat.ble (enL args).length 5 = true) : Run d 276 args m r ↔ Ev (d - 1) 131 cJ1_init (none) (fun _ => none) 0 (enT args 5) [] m r := by
  cases d with
  | zero => omega
  | succ d => exact uJ1_init (Nat.le_of_ble_eq_true hf)
theorem wJ1_init_2 {args : List Value} (hd : 1 ≤ d) (hf : Nat.ble (enL args).length 1 = true) : Run d 277 args m r ↔ Ev (d - 1) 131 cJ1_init_2 (none) (fun _ => none) 0 (enT args 1) [] m r := by
  cases d with
  | zero => omega
  | succ d => exact uJ1_init_2 (Nat.le_of_ble_eq_true hf)
theorem wJ2_fill {args : List Value} (hd : 1 ≤ d) (hf : Nat.ble (enL args).length 4 = true) : Run d 278 args m r ↔ Ev (d - 1) 32 cJ2_fill (none) (fun _ => none) 0 (enT args 4) [] m r := by
  cases d with
  | zero => omega
  | succ d => exact uJ2_fill (Nat.le_of_ble_eq_true hf)
theorem wJ3_length {args : List Value} (hd : 1 ≤ d) (hf : Nat.ble (enL args).length 1 = true) : Run d 279 args m r ↔ Ev (d - 1) 33 cJ3_length (some .int) (fun _ => none) 0 (enT args 1) [] m r := by
  cases d with
  | zero => omega
  | succ d => exact uJ3_length (Nat.le_of_ble_eq_true hf)
theorem wJ3_coder {args : List Value} (hd : 1 ≤ d) (hf : Nat.ble (enL args).length 1 = true) : Run d 280 args m r ↔ Ev (d - 1) 33 cJ3_coder (some .byte) (fun _ => none) 0 (enT args 1) [] m r := by
  cases d with
  | zero => omega
  | succ d => exact uJ3_coder (Nat.le_of_ble_eq_true hf)
theorem wJ3_charAt {args : List Value} (hd : 1 ≤ d) (hf : Nat.ble (enL args).length 2 = true) : Run d 281 args m r ↔ Ev (d - 1) 33 cJ3_charAt (some .char) (fun _ => none) 0 (enT args 2) [] m r := by
  cases d with
  | zero => omega
  | succ d => exact uJ3_charAt (Nat.le_of_ble_eq_true hf)
theorem wJ3_isLatin1 {args : List Value} (hd : 1 ≤ d) (hf : Nat.ble (enL args).length 1 = true) : Run d 282 args m r ↔ Ev (d - 1) 33 cJ3_isLatin1 (some .boolean) (fun _ => none) 0 (enT args 1) [] m r := by
  cases d with
  | zero => omega
  | succ d => exact uJ3_isLatin1 (Nat.le_of_ble_eq_true hf)
theorem wJ3_init {args : List Value} (hd : 1 ≤ d) (hf : Nat.ble (enL args).length 3 = true) : Run d 284 args m r ↔ Ev (d - 1) 133 cJ3_init (none) (fun _ => none) 0 (enT args 3) [] m r := by
  cases d with
  | zero => omega
  | succ d => exact uJ3_init (Nat.le_of_ble_eq_true hf)
theorem wJ4_charAt {args : List Value} (hd : 1 ≤ d) (hf : Nat.ble (enL args).length 2 = true) : Run d 285 args m r ↔ Ev (d - 1) 34 cJ4_charAt (some .char) (fun _ => none) 0 (enT args 2) [] m r := by
  cases d with
  | zero => omega
  | succ d => exact uJ4_charAt (Nat.le_of_ble_eq_true hf)
theorem wJ5_checkIndex {args : List Value} (hd : 1 ≤ d) (hf : Nat.ble (enL args).length 3 = true) : Run d 286 args m r ↔ Ev (d - 1) 35 cJ5_checkIndex (some .int) (fun _ => none) 0 (enT args 3) [] m r := by
  cases d with
  | zero => omega
  | succ d => exact uJ5_checkIndex (Nat.le_of_ble_eq_true hf)
theorem wJ6_charAt {args : List Value} (hd : 1 ≤ d) (hf : Nat.ble (enL args).length 2 = true) : Run d 287 args m r ↔ Ev (d - 1) 36 cJ6_charAt (some .char) (fun _ => none) 0 (enT args 2) [] m r := by
  cases d with
  | zero => omega
  | succ d => exact uJ6_charAt (Nat.le_of_ble_eq_true hf)
theorem wJ6_checkIndex {args : List Value} (hd : 1 ≤ d) (hf : Nat.ble (enL args).length 2 = true) : Run d 288 args m r ↔ Ev (d - 1) 36 cJ6_checkIndex (none) (fun _ => none) 0 (enT args 2) [] m r := by
  cases d with
  | zero => omega
  | succ d => exact uJ6_checkIndex (Nat.le_of_ble_eq_true hf)
theorem wJ6_length {args : List Value} (hd : 1 ≤ d) (hf : Nat.ble (enL args).length 1 = true) : Run d 289 args m r ↔ Ev (d - 1) 36 cJ6_length (some .int) (fun _ => none) 0 (enT args 1) [] m r := by
  cases d with
  | zero => omega
  | succ d => exact uJ6_length (Nat.le_of_ble_eq_true hf)
theorem wJ6_getChar {args : List Value} (hd : 1 ≤ d) (hf : Nat.ble (enL args).length 2 = true) : Run d 290 args m r ↔ Ev (d - 1) 36 cJ6_getChar (some .char) (fun _ => none) 0 (enT args 2) [] m r := by
  cases d with
  | zero => omega
  | succ d => exact uJ6_getChar (Nat.le_of_ble_eq_true hf)
theorem wJ6_getChars {args : List Value} (hd : 1 ≤ d) (hf : Nat.ble (enL args).length 7 = true) : Run d 291 args m r ↔ Ev (d - 1) 36 cJ6_getChars (some .int) (fun _ => none) 0 (enT args 7) [] m r := by
  cases d with
  | zero => omega
  | succ d => exact uJ6_getChars (Nat.le_of_ble_eq_true hf)
theorem wJ6_putChar {args : List Value} (hd : 1 ≤ d) (hf : Nat.ble (enL args).length 3 = true) : Run d 292 args m r ↔ Ev (d - 1) 36 cJ6_putChar (none) (fun _ => none) 0 (enT args 3) [] m r := by
  cases d with
  | zero => omega
  | succ d => exact uJ6_putChar (Nat.le_of_ble_eq_true hf)
theorem wJ7_init {args : List Value} (hd : 1 ≤ d) (hf : Nat.ble (enL args).length 1 = true) : Run d 293 args m r ↔ Ev (d - 1) 137 cJ7_init (none) (fun _ => none) 0 (enT args 1) [] m r := by
  cases d with
  | zero => omega
  | succ d => exact uJ7_init (Nat.le_of_ble_eq_true hf)
theorem wJ8_init {args : List Value} (hd : 1 ≤ d) (hf : Nat.ble (enL args).length 1 = true) : Run d 294 args m r ↔ Ev (d - 1) 138 cJ8_init (none) (fun _ => none) 0 (enT args 1) [] m r := by
  cases d with
  | zero => omega
  | succ d => exact uJ8_init (Nat.le_of_ble_eq_true hf)
theorem wJ9_min {args : List Value} (hd : 1 ≤ d) (hf : Nat.ble (enL args).length 2 = true) : Run d 295 args m r ↔ Ev (d - 1) 39 cJ9_min (some .int) (fun _ => none) 0 (enT args 2) [] m r := by
  cases d with
  | zero => omega
  | succ d => exact uJ9_min (Nat.le_of_ble_eq_true hf)
theorem wJ9_abs {args : List Value} (hd : 1 ≤ d) (hf : Nat.ble (enL args).length 1 = true) : Run d 296 args m r ↔ Ev (d - 1) 39 cJ9_abs (some .int) (fun _ => none) 0 (enT args 1) [] m r := by
  cases d with
  | zero => omega
  | succ d => exact uJ9_abs (Nat.le_of_ble_eq_true hf)
theorem wJ10_numberOfTrailingZeros {args : List Value} (hd : 1 ≤ d) (hf : Nat.ble (enL args).length 2 = true) : Run d 297 args m r ↔ Ev (d - 1) 40 cJ10_numberOfTrailingZeros (some .int) (fun _ => none) 0 (enT args 2) [] m r := by
  cases d with
  | zero => omega
  | succ d => exact uJ10_numberOfTrailingZeros (Nat.le_of_ble_eq_true hf)
theorem wJ10_toString {args : List Value} (hd : 1 ≤ d) (hf : Nat.ble (enL args).length 3 = true) : Run d 298 args m r ↔ Ev (d - 1) 40 cJ10_toString (some (.object "java/lang/String")) (fun _ => none) 0 (enT args 3) [] m r := by
  cases d with
  | zero => omega
  | succ d => exact uJ10_toString (Nat.le_of_ble_eq_true hf)
theorem wJ10_stringSize {args : List Value} (hd : 1 ≤ d) (hf : Nat.ble (enL args).length 4 = true) : Run d 299 args m r ↔ Ev (d - 1) 40 cJ10_stringSize (some .int) (fun _ => none) 0 (enT args 4) [] m r := by
  cases d with
  | zero => omega
  | succ d => exact uJ10_stringSize (Nat.le_of_ble_eq_true hf)
theorem wJ10_getChars {args : List Value} (hd : 1 ≤ d) (hf : Nat.ble (enL args).length 7 = true) : Run d 300 args m r ↔ Ev (d - 1) 40 cJ10_getChars (some .int) (fun _ => none) 0 (enT args 7) [] m r := by
  cases d with
  | zero => omega
  | succ d => exact uJ10_getChars (Nat.le_of_ble_eq_true hf)
theorem r_objInit {a : Nat} (hd : 8 ≤ d) : Run d 301 [.ref a] m r ↔ r = ((0, none), m) := by
  rw [Run_in (q := some ((0, none), m)) (by rw [mI_301e]; rfl) hd]
  exact ⟨fun h => (Option.some.inj h).symm, fun h => by rw [h]⟩
theorem r_faultInit {a : Nat} (hd : 8 ≤ d) : Run d 59 [.ref a] m r ↔ r = ((0, none), m) := by
  rw [Run_in (q := some ((0, none), m)) (by rw [mI_fit (Nat.le_of_ble_eq_true rfl)]; rfl) hd]
  exact ⟨fun h => (Option.some.inj h).symm, fun h => by rw [h]⟩
theorem r_must {x : Int32} (hd : 8 ≤ d) : Run d 58 [.int x] m r ↔ r = (if x = 0 then ((2, none), m) else ((0, none), m)) := by
  rw [Run_in (q := some (if x = 0 then ((2, none), m) else ((0, none), m))) (by rw [mI_fit (Nat.le_of_ble_eq_true rfl)]; rfl) hd]
  exact ⟨fun h => (Option.some.inj h).symm, fun h => by rw [h]⟩
theorem r_checkIndex {i n : Int32} (hd : 8 ≤ d) (h : 0 ≤ i ∧ i < n) : Run d 283 [.int i, .int n] m r ↔ r = ((0, none), m) := by
  rw [Run_in (q := if 0 ≤ i ∧ i < n then some ((0, none), m) else none) (by rw [mI_fit (Nat.le_of_ble_eq_true rfl)]; rfl) hd, if_pos h]
  exact ⟨fun h => (Option.some.inj h).symm, fun h => by rw [h]⟩
/-- System.arraycopy of ints -/
theorem r_copyI {a sp b dp n : Nat} (hd : 8 ≤ d) (h1 : sp + n ≤ gN m a) (h2 : dp + n ≤ gN m b) (ha : gK m a = 100) (hb : gK m b = 100) (hs : sp < 2147483648) (hp : dp < 2147483648) (hn : n < 2147483648) : Run d 302 [.ref a, .int (nI sp), .ref b, .int (nI dp), .int (nI n)] m r ↔ r = ((0, none), cI m a sp b dp n) := by
  rw [Run_in (q := if 0 ≤ nI sp ∧ 0 ≤ nI dp ∧ 0 ≤ nI n ∧ (nI sp).toNatClampNeg + (nI n).toNatClampNeg ≤ gN m a ∧ (nI dp).toNatClampNeg + (nI n).toNatClampNeg ≤ gN m b then
        (if gK m a = 100 ∧ gK m b = 100 then some ((0, none), cI m a (nI sp).toNatClampNeg b (nI dp).toNatClampNeg (nI n).toNatClampNeg)
         else if (gK m a = 104 ∧ gK m b = 104) ∧ (List.range (nI n).toNatClampNeg).all (fun i => elS m a ((nI sp).toNatClampNeg + i)) = true then some ((0, none), cR m a (nI sp).toNatClampNeg b (nI dp).toNatClampNeg (nI n).toNatClampNeg) else none) else none) (by rw [mI_302e]; rfl) hd]
  rw [nI_clamp hs, nI_clamp hp, nI_clamp hn]
  rw [if_pos ⟨(nI_0le hs).mpr trivial, (nI_0le hp).mpr trivial, (nI_0le hn).mpr trivial, h1, h2⟩, if_pos ⟨ha, hb⟩]
  exact ⟨fun h => (Option.some.inj h).symm, fun h => by rw [h]⟩
/-- System.arraycopy of States -/
theorem r_copyR {a sp b dp n : Nat} (hd : 8 ≤ d) (h1 : sp + n ≤ gN m a) (h2 : dp + n ≤ gN m b) (ha : gK m a = 104) (hb : gK m b = 104) (hs : sp < 2147483648) (hp : dp < 2147483648) (hn : n < 2147483648) (he : (List.range n).all (fun i => elS m a (sp + i)) = true) : Run d 302 [.ref a, .int (nI sp), .ref b, .int (nI dp), .int (nI n)] m r ↔ r = ((0, none), cR m a sp b dp n) := by
  rw [Run_in (q := if 0 ≤ nI sp ∧ 0 ≤ nI dp ∧ 0 ≤ nI n ∧ (nI sp).toNatClampNeg + (nI n).toNatClampNeg ≤ gN m a ∧ (nI dp).toNatClampNeg + (nI n).toNatClampNeg ≤ gN m b then
        (if gK m a = 100 ∧ gK m b = 100 then some ((0, none), cI m a (nI sp).toNatClampNeg b (nI dp).toNatClampNeg (nI n).toNatClampNeg)
         else if (gK m a = 104 ∧ gK m b = 104) ∧ (List.range (nI n).toNatClampNeg).all (fun i => elS m a ((nI sp).toNatClampNeg + i)) = true then some ((0, none), cR m a (nI sp).toNatClampNeg b (nI dp).toNatClampNeg (nI n).toNatClampNeg) else none) else none) (by rw [mI_302e]; rfl) hd]
  rw [nI_clamp hs, nI_clamp hp, nI_clamp hn]
  rw [if_pos ⟨(nI_0le hs).mpr trivial, (nI_0le hp).mpr trivial, (nI_0le hn).mpr trivial, h1, h2⟩, if_neg (by rw [ha]; omega), if_pos ⟨⟨ha, hb⟩, he⟩]
  exact ⟨fun h => (Option.some.inj h).symm, fun h => by rw [h]⟩
section SWI
variable {cc : ByteArray} {rt : Option FieldType} {hh : Nat → Option Nat} {L : PLs} {st : List Value} {pc : Nat}
theorem n101_13 (hX : gX m < 900000) : EvI (.ok (.new 13, 3)) d 101 cc rt hh pc L st m r ↔ Ev d 101 cc rt hh (pc + 3) L (.ref (gX m) :: st) (nw m 2 0 8) r := E_new (by decide +kernel) hX
theorem a101_20 {n : Nat} (hn : n ≤ 1000000) (hX : gX m < 900000) : EvI (.ok (.anewarray 20, 3)) d 101 cc rt hh pc L (.int (nI n) :: st) m r ↔ Ev d 101 cc rt hh (pc + 3) L (.ref (gX m) :: st) (nw m 107 n n) r := E_anewarray (by decide +kernel) hn hX
theorem k101_ldc_22 : EvI (.ok (.ldc 22, 2)) d 101 cc rt hh pc L st m r ↔ Ev d 101 cc rt hh (pc + 2) L (.ref 1000000 :: st) m r := E_ldc (by decide +kernel) rfl
theorem k101_ldc_24 : EvI (.ok (.ldc 24, 2)) d 101 cc rt hh pc L st m r ↔ Ev d 101 cc rt hh (pc + 2) L (.ref 1000002 :: st) m r := E_ldc (by decide +kernel) rfl
theorem k101_ldc_26 : EvI (.ok (.ldc 26, 2)) d 101 cc rt hh pc L st m r ↔ Ev d 101 cc rt hh (pc + 2) L (.ref 1000004 :: st) m r := E_ldc (by decide +kernel) rfl
theorem k101_ldc_28 : EvI (.ok (.ldc 28, 2)) d 101 cc rt hh pc L st m r ↔ Ev d 101 cc rt hh (pc + 2) L (.ref 1000006 :: st) m r := E_ldc (by decide +kernel) rfl
theorem k101_ldc_30 : EvI (.ok (.ldc 30, 2)) d 101 cc rt hh pc L st m r ↔ Ev d 101 cc rt hh (pc + 2) L (.ref 1000008 :: st) m r := E_ldc (by decide +kernel) rfl
theorem k101_ldc_36 : EvI (.ok (.ldc 36, 2)) d 101 cc rt hh pc L st m r ↔ Ev d 101 cc rt hh (pc + 2) L (.ref 1000010 :: st) m r := E_ldc (by decide +kernel) rfl
theorem k101_ldc_38 : EvI (.ok (.ldc 38, 2)) d 101 cc rt hh pc L st m r ↔ Ev d 101 cc rt hh (pc + 2) L (.ref 1000012 :: st) m r := E_ldc (by decide +kernel) rfl
theorem k101_ldc_40 : EvI (.ok (.ldc 40, 2)) d 101 cc rt hh pc L st m r ↔ Ev d 101 cc rt hh (pc + 2) L (.ref 1000014 :: st) m r := E_ldc (by decide +kernel) rfl
theorem k101_ldc_42 : EvI (.ok (.ldc 42, 2)) d 101 cc rt hh pc L st m r ↔ Ev d 101 cc rt hh (pc + 2) L (.ref 1000016 :: st) m r := E_ldc (by decide +kernel) rfl
theorem k101_ldc_44 : EvI (.ok (.ldc 44, 2)) d 101 cc rt hh pc L st m r ↔ Ev d 101 cc rt hh (pc + 2) L (.ref 1000018 :: st) m r := E_ldc (by decide +kernel) rfl
theorem k101_ldc_46 : EvI (.ok (.ldc 46, 2)) d 101 cc rt hh pc L st m r ↔ Ev d 101 cc rt hh (pc + 2) L (.ref 1000020 :: st) m r := E_ldc (by decide +kernel) rfl
theorem k101_ldc_48 : EvI (.ok (.ldc 48, 2)) d 101 cc rt hh pc L st m r ↔ Ev d 101 cc rt hh (pc + 2) L (.ref 1000022 :: st) m r := E_ldc (by decide +kernel) rfl
theorem k101_ldc_50 : EvI (.ok (.ldc 50, 2)) d 101 cc rt hh pc L st m r ↔ Ev d 101 cc rt hh (pc + 2) L (.ref 1000024 :: st) m r := E_ldc (by decide +kernel) rfl
theorem k101_ldc_52 : EvI (.ok (.ldc 52, 2)) d 101 cc rt hh pc L st m r ↔ Ev d 101 cc rt hh (pc + 2) L (.ref 1000026 :: st) m r := E_ldc (by decide +kernel) rfl
theorem k101_ldc_54 : EvI (.ok (.ldc 54, 2)) d 101 cc rt hh pc L st m r ↔ Ev d 101 cc rt hh (pc + 2) L (.ref 1000028 :: st) m r := E_ldc (by decide +kernel) rfl
theorem k101_ldc_56 : EvI (.ok (.ldc 56, 2)) d 101 cc rt hh pc L st m r ↔ Ev d 101 cc rt hh (pc + 2) L (.ref 1000030 :: st) m r := E_ldc (by decide +kernel) rfl
theorem k101_ldc_58 : EvI (.ok (.ldc 58, 2)) d 101 cc rt hh pc L st m r ↔ Ev d 101 cc rt hh (pc + 2) L (.ref 1000032 :: st) m r := E_ldc (by decide +kernel) rfl
theorem k101_ldc_60 : EvI (.ok (.ldc 60, 2)) d 101 cc rt hh pc L st m r ↔ Ev d 101 cc rt hh (pc + 2) L (.ref 1000034 :: st) m r := E_ldc (by decide +kernel) rfl
theorem k101_ldc_62 : EvI (.ok (.ldc 62, 2)) d 101 cc rt hh pc L st m r ↔ Ev d 101 cc rt hh (pc + 2) L (.ref 1000036 :: st) m r := E_ldc (by decide +kernel) rfl
theorem k101_ldc_64 : EvI (.ok (.ldc 64, 2)) d 101 cc rt hh pc L st m r ↔ Ev d 101 cc rt hh (pc + 2) L (.ref 1000038 :: st) m r := E_ldc (by decide +kernel) rfl
theorem k101_ldc_66 : EvI (.ok (.ldc 66, 2)) d 101 cc rt hh pc L st m r ↔ Ev d 101 cc rt hh (pc + 2) L (.ref 1000040 :: st) m r := E_ldc (by decide +kernel) rfl
theorem k101_ldc_68 : EvI (.ok (.ldc 68, 2)) d 101 cc rt hh pc L st m r ↔ Ev d 101 cc rt hh (pc + 2) L (.ref 1000042 :: st) m r := E_ldc (by decide +kernel) rfl
theorem k101_ldc_70 : EvI (.ok (.ldc 70, 2)) d 101 cc rt hh pc L st m r ↔ Ev d 101 cc rt hh (pc + 2) L (.ref 1000044 :: st) m r := E_ldc (by decide +kernel) rfl
theorem k101_ldc_72 : EvI (.ok (.ldc 72, 2)) d 101 cc rt hh pc L st m r ↔ Ev d 101 cc rt hh (pc + 2) L (.ref 1000046 :: st) m r := E_ldc (by decide +kernel) rfl
theorem k101_ldc_74 : EvI (.ok (.ldc 74, 2)) d 101 cc rt hh pc L st m r ↔ Ev d 101 cc rt hh (pc + 2) L (.ref 1000048 :: st) m r := E_ldc (by decide +kernel) rfl
theorem k101_ldc_76 : EvI (.ok (.ldc 76, 2)) d 101 cc rt hh pc L st m r ↔ Ev d 101 cc rt hh (pc + 2) L (.ref 1000050 :: st) m r := E_ldc (by decide +kernel) rfl
theorem k101_ldc_78 : EvI (.ok (.ldc 78, 2)) d 101 cc rt hh pc L st m r ↔ Ev d 101 cc rt hh (pc + 2) L (.ref 1000052 :: st) m r := E_ldc (by decide +kernel) rfl
theorem k101_ldc_80 : EvI (.ok (.ldc 80, 2)) d 101 cc rt hh pc L st m r ↔ Ev d 101 cc rt hh (pc + 2) L (.ref 1000054 :: st) m r := E_ldc (by decide +kernel) rfl
theorem n101_88 (hX : gX m < 900000) : EvI (.ok (.new 88, 3)) d 101 cc rt hh pc L st m r ↔ Ev d 101 cc rt hh (pc + 3) L (.ref (gX m) :: st) (nw m 3 0 11) r := E_new (by decide +kernel) hX
theorem n101_95 (hX : gX m < 900000) : EvI (.ok (.new 95, 3)) d 101 cc rt hh pc L st m r ↔ Ev d 101 cc rt hh (pc + 3) L (.ref (gX m) :: st) (nw m 4 0 12) r := E_new (by decide +kernel) hX
theorem n101_105 (hX : gX m < 900000) : EvI (.ok (.new 105, 3)) d 101 cc rt hh pc L st m r ↔ Ev d 101 cc rt hh (pc + 3) L (.ref (gX m) :: st) (nw m 5 0 11) r := E_new (by decide +kernel) hX
theorem n101_114 (hX : gX m < 900000) : EvI (.ok (.new 114, 3)) d 101 cc rt hh pc L st m r ↔ Ev d 101 cc rt hh (pc + 3) L (.ref (gX m) :: st) (nw m 6 0 11) r := E_new (by decide +kernel) hX
theorem a101_95 {n : Nat} (hn : n ≤ 1000000) (hX : gX m < 900000) : EvI (.ok (.anewarray 95, 3)) d 101 cc rt hh pc L (.int (nI n) :: st) m r ↔ Ev d 101 cc rt hh (pc + 3) L (.ref (gX m) :: st) (nw m 104 n n) r := E_anewarray (by decide +kernel) hn hX
theorem n101_164 (hX : gX m < 900000) : EvI (.ok (.new 164, 3)) d 101 cc rt hh pc L st m r ↔ Ev d 101 cc rt hh (pc + 3) L (.ref (gX m) :: st) (nw m 7 0 12) r := E_new (by decide +kernel) hX
theorem a101_171 {n : Nat} (hn : n ≤ 1000000) (hX : gX m < 900000) : EvI (.ok (.anewarray 171, 3)) d 101 cc rt hh pc L (.int (nI n) :: st) m r ↔ Ev d 101 cc rt hh (pc + 3) L (.ref (gX m) :: st) (nw m 106 n n) r := E_anewarray (by decide +kernel) hn hX
theorem n1_88 (hX : gX m < 900000) : EvI (.ok (.new 88, 3)) d 1 cc rt hh pc L st m r ↔ Ev d 1 cc rt hh (pc + 3) L (.ref (gX m) :: st) (nw m 3 0 11) r := E_new (by decide +kernel) hX
theorem tX1_dish_11_0 : EvI (.ok (.tableswitch 88 0 2 #[25, 35, 45], 25)) d 1 cc rt hh 11 L (.int (nI 0) :: st) m r ↔ Ev d 1 cc rt hh 36 L st m r := E_tableIn (off := 25) (by decide) (by decide) (by decide)
theorem tX1_dish_11_1 : EvI (.ok (.tableswitch 88 0 2 #[25, 35, 45], 25)) d 1 cc rt hh 11 L (.int (nI 1) :: st) m r ↔ Ev d 1 cc rt hh 46 L st m r := E_tableIn (off := 35) (by decide) (by decide) (by decide)
theorem tX1_dish_11_2 : EvI (.ok (.tableswitch 88 0 2 #[25, 35, 45], 25)) d 1 cc rt hh 11 L (.int (nI 2) :: st) m r ↔ Ev d 1 cc rt hh 56 L st m r := E_tableIn (off := 45) (by decide) (by decide) (by decide)
theorem tX1_dish_11_d {x : Int32} (h : x.toInt < 0 ∨ 2 < x.toInt) : EvI (.ok (.tableswitch 88 0 2 #[25, 35, 45], 25)) d 1 cc rt hh 11 L (.int x :: st) m r ↔ Ev d 1 cc rt hh 99 L st m r := E_tableOut h (by decide)
theorem tX1_dish_11_n {j : Nat} (h : 2 < j ∧ j < 2147483648) : EvI (.ok (.tableswitch 88 0 2 #[25, 35, 45], 25)) d 1 cc rt hh 11 L (.int (nI j) :: st) m r ↔ Ev d 1 cc rt hh 99 L st m r := E_tableOut (Or.inr (by rw [nI_toInt h.2]; omega)) (by decide)
theorem tX1_now_52_0 : EvI (.ok (.tableswitch 100 0 7 #[48, 56, 64, 72, 80, 88, 90, 92], 48)) d 1 cc rt hh 52 L (.int (nI 0) :: st) m r ↔ Ev d 1 cc rt hh 100 L st m r := E_tableIn (off := 48) (by decide) (by decide) (by decide)
theorem tX1_now_52_1 : EvI (.ok (.tableswitch 100 0 7 #[48, 56, 64, 72, 80, 88, 90, 92], 48)) d 1 cc rt hh 52 L (.int (nI 1) :: st) m r ↔ Ev d 1 cc rt hh 108 L st m r := E_tableIn (off := 56) (by decide) (by decide) (by decide)
theorem tX1_now_52_2 : EvI (.ok (.tableswitch 100 0 7 #[48, 56, 64, 72, 80, 88, 90, 92], 48)) d 1 cc rt hh 52 L (.int (nI 2) :: st) m r ↔ Ev d 1 cc rt hh 116 L st m r := E_tableIn (off := 64) (by decide) (by decide) (by decide)
theorem tX1_now_52_3 : EvI (.ok (.tableswitch 100 0 7 #[48, 56, 64, 72, 80, 88, 90, 92], 48)) d 1 cc rt hh 52 L (.int (nI 3) :: st) m r ↔ Ev d 1 cc rt hh 124 L st m r := E_tableIn (off := 72) (by decide) (by decide) (by decide)
theorem tX1_now_52_4 : EvI (.ok (.tableswitch 100 0 7 #[48, 56, 64, 72, 80, 88, 90, 92], 48)) d 1 cc rt hh 52 L (.int (nI 4) :: st) m r ↔ Ev d 1 cc rt hh 132 L st m r := E_tableIn (off := 80) (by decide) (by decide) (by decide)
theorem tX1_now_52_5 : EvI (.ok (.tableswitch 100 0 7 #[48, 56, 64, 72, 80, 88, 90, 92], 48)) d 1 cc rt hh 52 L (.int (nI 5) :: st) m r ↔ Ev d 1 cc rt hh 140 L st m r := E_tableIn (off := 88) (by decide) (by decide) (by decide)
theorem tX1_now_52_6 : EvI (.ok (.tableswitch 100 0 7 #[48, 56, 64, 72, 80, 88, 90, 92], 48)) d 1 cc rt hh 52 L (.int (nI 6) :: st) m r ↔ Ev d 1 cc rt hh 142 L st m r := E_tableIn (off := 90) (by decide) (by decide) (by decide)
theorem tX1_now_52_7 : EvI (.ok (.tableswitch 100 0 7 #[48, 56, 64, 72, 80, 88, 90, 92], 48)) d 1 cc rt hh 52 L (.int (nI 7) :: st) m r ↔ Ev d 1 cc rt hh 144 L st m r := E_tableIn (off := 92) (by decide) (by decide) (by decide)
theorem tX1_now_52_d {x : Int32} (h : x.toInt < 0 ∨ 7 < x.toInt) : EvI (.ok (.tableswitch 100 0 7 #[48, 56, 64, 72, 80, 88, 90, 92], 48)) d 1 cc rt hh 52 L (.int x :: st) m r ↔ Ev d 1 cc rt hh 152 L st m r := E_tableOut h (by decide)
theorem tX1_now_52_n {j : Nat} (h : 7 < j ∧ j < 2147483648) : EvI (.ok (.tableswitch 100 0 7 #[48, 56, 64, 72, 80, 88, 90, 92], 48)) d 1 cc rt hh 52 L (.int (nI j) :: st) m r ↔ Ev d 1 cc rt hh 152 L st m r := E_tableOut (Or.inr (by rw [nI_toInt h.2]; omega)) (by decide)
theorem n1_95 (hX : gX m < 900000) : EvI (.ok (.new 95, 3)) d 1 cc rt hh pc L st m r ↔ Ev d 1 cc rt hh (pc + 3) L (.ref (gX m) :: st) (nw m 4 0 12) r := E_new (by decide +kernel) hX
theorem k1_ldc_w_352 : EvI (.ok (.ldc_w 352, 3)) d 1 cc rt hh pc L st m r ↔ Ev d 1 cc rt hh (pc + 3) L (.int 100000 :: st) m r := E_ldc_w (by decide +kernel) rfl
theorem k1_ldc_w_409 : EvI (.ok (.ldc_w 409, 3)) d 1 cc rt hh pc L st m r ↔ Ev d 1 cc rt hh (pc + 3) L (.ref 1000056 :: st) m r := E_ldc_w (by decide +kernel) rfl
theorem k1_ldc_w_414 : EvI (.ok (.ldc_w 414, 3)) d 1 cc rt hh pc L st m r ↔ Ev d 1 cc rt hh (pc + 3) L (.ref 1000058 :: st) m r := E_ldc_w (by decide +kernel) rfl
theorem k1_ldc_w_420 : EvI (.ok (.ldc_w 420, 3)) d 1 cc rt hh pc L st m r ↔ Ev d 1 cc rt hh (pc + 3) L (.ref 1000060 :: st) m r := E_ldc_w (by decide +kernel) rfl
theorem k1_ldc_w_422 : EvI (.ok (.ldc_w 422, 3)) d 1 cc rt hh pc L st m r ↔ Ev d 1 cc rt hh (pc + 3) L (.ref 1000062 :: st) m r := E_ldc_w (by decide +kernel) rfl
theorem k1_ldc2_w_400 : EvI (.ok (.ldc2_w 400, 3)) d 1 cc rt hh pc L st m r ↔ Ev d 1 cc rt hh (pc + 3) L (.long 255 :: st) m r := E_ldc2_w (by decide +kernel) rfl
theorem n1_171 (hX : gX m < 900000) : EvI (.ok (.new 171, 3)) d 1 cc rt hh pc L st m r ↔ Ev d 1 cc rt hh (pc + 3) L (.ref (gX m) :: st) (nw m 21 0 3) r := E_new (by decide +kernel) hX
theorem tX1_count_1_0 : EvI (.ok (.tableswitch 72 0 4 #[35, 43, 51, 59, 67], 35)) d 1 cc rt hh 1 L (.int (nI 0) :: st) m r ↔ Ev d 1 cc rt hh 36 L st m r := E_tableIn (off := 35) (by decide) (by decide) (by decide)
theorem tX1_count_1_1 : EvI (.ok (.tableswitch 72 0 4 #[35, 43, 51, 59, 67], 35)) d 1 cc rt hh 1 L (.int (nI 1) :: st) m r ↔ Ev d 1 cc rt hh 44 L st m r := E_tableIn (off := 43) (by decide) (by decide) (by decide)
theorem tX1_count_1_2 : EvI (.ok (.tableswitch 72 0 4 #[35, 43, 51, 59, 67], 35)) d 1 cc rt hh 1 L (.int (nI 2) :: st) m r ↔ Ev d 1 cc rt hh 52 L st m r := E_tableIn (off := 51) (by decide) (by decide) (by decide)
theorem tX1_count_1_3 : EvI (.ok (.tableswitch 72 0 4 #[35, 43, 51, 59, 67], 35)) d 1 cc rt hh 1 L (.int (nI 3) :: st) m r ↔ Ev d 1 cc rt hh 60 L st m r := E_tableIn (off := 59) (by decide) (by decide) (by decide)
theorem tX1_count_1_4 : EvI (.ok (.tableswitch 72 0 4 #[35, 43, 51, 59, 67], 35)) d 1 cc rt hh 1 L (.int (nI 4) :: st) m r ↔ Ev d 1 cc rt hh 68 L st m r := E_tableIn (off := 67) (by decide) (by decide) (by decide)
theorem tX1_count_1_d {x : Int32} (h : x.toInt < 0 ∨ 4 < x.toInt) : EvI (.ok (.tableswitch 72 0 4 #[35, 43, 51, 59, 67], 35)) d 1 cc rt hh 1 L (.int x :: st) m r ↔ Ev d 1 cc rt hh 73 L st m r := E_tableOut h (by decide)
theorem tX1_count_1_n {j : Nat} (h : 4 < j ∧ j < 2147483648) : EvI (.ok (.tableswitch 72 0 4 #[35, 43, 51, 59, 67], 35)) d 1 cc rt hh 1 L (.int (nI j) :: st) m r ↔ Ev d 1 cc rt hh 73 L st m r := E_tableOut (Or.inr (by rw [nI_toInt h.2]; omega)) (by decide)
theorem tX1_person_27_0 : EvI (.ok (.tableswitch 141 0 7 #[45, 55, 65, 82, 102, 112, 122, 132], 45)) d 1 cc rt hh 27 L (.int (nI 0) :: st) m r ↔ Ev d 1 cc rt hh 72 L st m r := E_tableIn (off := 45) (by decide) (by decide) (by decide)
theorem tX1_person_27_1 : EvI (.ok (.tableswitch 141 0 7 #[45, 55, 65, 82, 102, 112, 122, 132], 45)) d 1 cc rt hh 27 L (.int (nI 1) :: st) m r ↔ Ev d 1 cc rt hh 82 L st m r := E_tableIn (off := 55) (by decide) (by decide) (by decide)
theorem tX1_person_27_2 : EvI (.ok (.tableswitch 141 0 7 #[45, 55, 65, 82, 102, 112, 122, 132], 45)) d 1 cc rt hh 27 L (.int (nI 2) :: st) m r ↔ Ev d 1 cc rt hh 92 L st m r := E_tableIn (off := 65) (by decide) (by decide) (by decide)
theorem tX1_person_27_3 : EvI (.ok (.tableswitch 141 0 7 #[45, 55, 65, 82, 102, 112, 122, 132], 45)) d 1 cc rt hh 27 L (.int (nI 3) :: st) m r ↔ Ev d 1 cc rt hh 109 L st m r := E_tableIn (off := 82) (by decide) (by decide) (by decide)
theorem tX1_person_27_4 : EvI (.ok (.tableswitch 141 0 7 #[45, 55, 65, 82, 102, 112, 122, 132], 45)) d 1 cc rt hh 27 L (.int (nI 4) :: st) m r ↔ Ev d 1 cc rt hh 129 L st m r := E_tableIn (off := 102) (by decide) (by decide) (by decide)
theorem tX1_person_27_5 : EvI (.ok (.tableswitch 141 0 7 #[45, 55, 65, 82, 102, 112, 122, 132], 45)) d 1 cc rt hh 27 L (.int (nI 5) :: st) m r ↔ Ev d 1 cc rt hh 139 L st m r := E_tableIn (off := 112) (by decide) (by decide) (by decide)
theorem tX1_person_27_6 : EvI (.ok (.tableswitch 141 0 7 #[45, 55, 65, 82, 102, 112, 122, 132], 45)) d 1 cc rt hh 27 L (.int (nI 6) :: st) m r ↔ Ev d 1 cc rt hh 149 L st m r := E_tableIn (off := 122) (by decide) (by decide) (by decide)
theorem tX1_person_27_7 : EvI (.ok (.tableswitch 141 0 7 #[45, 55, 65, 82, 102, 112, 122, 132], 45)) d 1 cc rt hh 27 L (.int (nI 7) :: st) m r ↔ Ev d 1 cc rt hh 159 L st m r := E_tableIn (off := 132) (by decide) (by decide) (by decide)
theorem tX1_person_27_d {x : Int32} (h : x.toInt < 0 ∨ 7 < x.toInt) : EvI (.ok (.tableswitch 141 0 7 #[45, 55, 65, 82, 102, 112, 122, 132], 45)) d 1 cc rt hh 27 L (.int x :: st) m r ↔ Ev d 1 cc rt hh 168 L st m r := E_tableOut h (by decide)
theorem tX1_person_27_n {j : Nat} (h : 7 < j ∧ j < 2147483648) : EvI (.ok (.tableswitch 141 0 7 #[45, 55, 65, 82, 102, 112, 122, 132], 45)) d 1 cc rt hh 27 L (.int (nI j) :: st) m r ↔ Ev d 1 cc rt hh 168 L st m r := E_tableOut (Or.inr (by rw [nI_toInt h.2]; omega)) (by decide)
theorem k4_ldc_124 : EvI (.ok (.ldc 124, 2)) d 4 cc rt hh pc L st m r ↔ Ev d 4 cc rt hh (pc + 2) L (.int 1103515245 :: st) m r := E_ldc (by decide +kernel) rfl
theorem tX6_line_1_0 : EvI (.ok (.tableswitch 175 0 3 #[31, 38, 45, 133], 31)) d 6 cc rt hh 1 L (.int (nI 0) :: st) m r ↔ Ev d 6 cc rt hh 32 L st m r := E_tableIn (off := 31) (by decide) (by decide) (by decide)
theorem tX6_line_1_1 : EvI (.ok (.tableswitch 175 0 3 #[31, 38, 45, 133], 31)) d 6 cc rt hh 1 L (.int (nI 1) :: st) m r ↔ Ev d 6 cc rt hh 39 L st m r := E_tableIn (off := 38) (by decide) (by decide) (by decide)
theorem tX6_line_1_2 : EvI (.ok (.tableswitch 175 0 3 #[31, 38, 45, 133], 31)) d 6 cc rt hh 1 L (.int (nI 2) :: st) m r ↔ Ev d 6 cc rt hh 46 L st m r := E_tableIn (off := 45) (by decide) (by decide) (by decide)
theorem tX6_line_1_3 : EvI (.ok (.tableswitch 175 0 3 #[31, 38, 45, 133], 31)) d 6 cc rt hh 1 L (.int (nI 3) :: st) m r ↔ Ev d 6 cc rt hh 134 L st m r := E_tableIn (off := 133) (by decide) (by decide) (by decide)
theorem tX6_line_1_d {x : Int32} (h : x.toInt < 0 ∨ 3 < x.toInt) : EvI (.ok (.tableswitch 175 0 3 #[31, 38, 45, 133], 31)) d 6 cc rt hh 1 L (.int x :: st) m r ↔ Ev d 6 cc rt hh 176 L st m r := E_tableOut h (by decide)
theorem tX6_line_1_n {j : Nat} (h : 3 < j ∧ j < 2147483648) : EvI (.ok (.tableswitch 175 0 3 #[31, 38, 45, 133], 31)) d 6 cc rt hh 1 L (.int (nI j) :: st) m r ↔ Ev d 6 cc rt hh 176 L st m r := E_tableOut (Or.inr (by rw [nI_toInt h.2]; omega)) (by decide)
theorem k6_ldc_122 : EvI (.ok (.ldc 122, 2)) d 6 cc rt hh pc L st m r ↔ Ev d 6 cc rt hh (pc + 2) L (.ref 1000010 :: st) m r := E_ldc (by decide +kernel) rfl
theorem k6_ldc_130 : EvI (.ok (.ldc 130, 2)) d 6 cc rt hh pc L st m r ↔ Ev d 6 cc rt hh (pc + 2) L (.ref 1000012 :: st) m r := E_ldc (by decide +kernel) rfl
theorem a107_15 {n : Nat} (hn : n ≤ 1000000) (hX : gX m < 900000) : EvI (.ok (.anewarray 15, 3)) d 107 cc rt hh pc L (.int (nI n) :: st) m r ↔ Ev d 107 cc rt hh (pc + 3) L (.ref (gX m) :: st) (nw m 105 n n) r := E_anewarray (by decide +kernel) hn hX
theorem k7_ldc_40 : EvI (.ok (.ldc 40, 2)) d 7 cc rt hh pc L st m r ↔ Ev d 7 cc rt hh (pc + 2) L (.ref 1000032 :: st) m r := E_ldc (by decide +kernel) rfl
theorem n7_70 (hX : gX m < 900000) : EvI (.ok (.new 70, 3)) d 7 cc rt hh pc L st m r ↔ Ev d 7 cc rt hh (pc + 3) L (.ref (gX m) :: st) (nw m 9 0 1) r := E_new (by decide +kernel) hX
theorem k7_ldc_78 : EvI (.ok (.ldc 78, 2)) d 7 cc rt hh pc L st m r ↔ Ev d 7 cc rt hh (pc + 2) L (.ref 1000020 :: st) m r := E_ldc (by decide +kernel) rfl
theorem k7_ldc_80 : EvI (.ok (.ldc 80, 2)) d 7 cc rt hh pc L st m r ↔ Ev d 7 cc rt hh (pc + 2) L (.ref 1000022 :: st) m r := E_ldc (by decide +kernel) rfl
theorem n7_91 (hX : gX m < 900000) : EvI (.ok (.new 91, 3)) d 7 cc rt hh pc L st m r ↔ Ev d 7 cc rt hh (pc + 3) L (.ref (gX m) :: st) (nw m 10 0 3) r := E_new (by decide +kernel) hX
theorem n7_96 (hX : gX m < 900000) : EvI (.ok (.new 96, 3)) d 7 cc rt hh pc L st m r ↔ Ev d 7 cc rt hh (pc + 3) L (.ref (gX m) :: st) (nw m 11 0 3) r := E_new (by decide +kernel) hX
theorem k7_ldc_99 : EvI (.ok (.ldc 99, 2)) d 7 cc rt hh pc L st m r ↔ Ev d 7 cc rt hh (pc + 2) L (.ref 1000024 :: st) m r := E_ldc (by decide +kernel) rfl
theorem n7_101 (hX : gX m < 900000) : EvI (.ok (.new 101, 3)) d 7 cc rt hh pc L st m r ↔ Ev d 7 cc rt hh (pc + 3) L (.ref (gX m) :: st) (nw m 12 0 1) r := E_new (by decide +kernel) hX
theorem k7_ldc_104 : EvI (.ok (.ldc 104, 2)) d 7 cc rt hh pc L st m r ↔ Ev d 7 cc rt hh (pc + 2) L (.ref 1000026 :: st) m r := E_ldc (by decide +kernel) rfl
theorem n7_106 (hX : gX m < 900000) : EvI (.ok (.new 106, 3)) d 7 cc rt hh pc L st m r ↔ Ev d 7 cc rt hh (pc + 3) L (.ref (gX m) :: st) (nw m 13 0 1) r := E_new (by decide +kernel) hX
theorem k7_ldc_109 : EvI (.ok (.ldc 109, 2)) d 7 cc rt hh pc L st m r ↔ Ev d 7 cc rt hh (pc + 2) L (.ref 1000028 :: st) m r := E_ldc (by decide +kernel) rfl
theorem n7_111 (hX : gX m < 900000) : EvI (.ok (.new 111, 3)) d 7 cc rt hh pc L st m r ↔ Ev d 7 cc rt hh (pc + 3) L (.ref (gX m) :: st) (nw m 14 0 1) r := E_new (by decide +kernel) hX
theorem k7_ldc_114 : EvI (.ok (.ldc 114, 2)) d 7 cc rt hh pc L st m r ↔ Ev d 7 cc rt hh (pc + 2) L (.ref 1000030 :: st) m r := E_ldc (by decide +kernel) rfl
theorem n7_116 (hX : gX m < 900000) : EvI (.ok (.new 116, 3)) d 7 cc rt hh pc L st m r ↔ Ev d 7 cc rt hh (pc + 3) L (.ref (gX m) :: st) (nw m 15 0 1) r := E_new (by decide +kernel) hX
theorem a108_15 {n : Nat} (hn : n ≤ 1000000) (hX : gX m < 900000) : EvI (.ok (.anewarray 15, 3)) d 108 cc rt hh pc L (.int (nI n) :: st) m r ↔ Ev d 108 cc rt hh (pc + 3) L (.ref (gX m) :: st) (nw m 107 n n) r := E_anewarray (by decide +kernel) hn hX
theorem k108_ldc_17 : EvI (.ok (.ldc 17, 2)) d 108 cc rt hh pc L st m r ↔ Ev d 108 cc rt hh (pc + 2) L (.ref 1000040 :: st) m r := E_ldc (by decide +kernel) rfl
theorem k108_ldc_19 : EvI (.ok (.ldc 19, 2)) d 108 cc rt hh pc L st m r ↔ Ev d 108 cc rt hh (pc + 2) L (.ref 1000042 :: st) m r := E_ldc (by decide +kernel) rfl
theorem k108_ldc_21 : EvI (.ok (.ldc 21, 2)) d 108 cc rt hh pc L st m r ↔ Ev d 108 cc rt hh (pc + 2) L (.ref 1000044 :: st) m r := E_ldc (by decide +kernel) rfl
theorem k108_ldc_23 : EvI (.ok (.ldc 23, 2)) d 108 cc rt hh pc L st m r ↔ Ev d 108 cc rt hh (pc + 2) L (.ref 1000010 :: st) m r := E_ldc (by decide +kernel) rfl
theorem k108_ldc_25 : EvI (.ok (.ldc 25, 2)) d 108 cc rt hh pc L st m r ↔ Ev d 108 cc rt hh (pc + 2) L (.ref 1000046 :: st) m r := E_ldc (by decide +kernel) rfl
theorem k108_ldc_31 : EvI (.ok (.ldc 31, 2)) d 108 cc rt hh pc L st m r ↔ Ev d 108 cc rt hh (pc + 2) L (.ref 1000048 :: st) m r := E_ldc (by decide +kernel) rfl
theorem k108_ldc_33 : EvI (.ok (.ldc 33, 2)) d 108 cc rt hh pc L st m r ↔ Ev d 108 cc rt hh (pc + 2) L (.ref 1000050 :: st) m r := E_ldc (by decide +kernel) rfl
theorem k108_ldc_35 : EvI (.ok (.ldc 35, 2)) d 108 cc rt hh pc L st m r ↔ Ev d 108 cc rt hh (pc + 2) L (.ref 1000052 :: st) m r := E_ldc (by decide +kernel) rfl
theorem k108_ldc_37 : EvI (.ok (.ldc 37, 2)) d 108 cc rt hh pc L st m r ↔ Ev d 108 cc rt hh (pc + 2) L (.ref 1000054 :: st) m r := E_ldc (by decide +kernel) rfl
theorem k8_ldc_64 : EvI (.ok (.ldc 64, 2)) d 8 cc rt hh pc L st m r ↔ Ev d 8 cc rt hh (pc + 2) L (.ref 1000034 :: st) m r := E_ldc (by decide +kernel) rfl
theorem n8_73 (hX : gX m < 900000) : EvI (.ok (.new 73, 3)) d 8 cc rt hh pc L st m r ↔ Ev d 8 cc rt hh (pc + 3) L (.ref (gX m) :: st) (nw m 20 0 2) r := E_new (by decide +kernel) hX
theorem k8_ldc_81 : EvI (.ok (.ldc 81, 2)) d 8 cc rt hh pc L st m r ↔ Ev d 8 cc rt hh (pc + 2) L (.ref 1000036 :: st) m r := E_ldc (by decide +kernel) rfl
theorem n8_83 (hX : gX m < 900000) : EvI (.ok (.new 83, 3)) d 8 cc rt hh pc L st m r ↔ Ev d 8 cc rt hh (pc + 3) L (.ref (gX m) :: st) (nw m 19 0 2) r := E_new (by decide +kernel) hX
theorem k8_ldc_86 : EvI (.ok (.ldc 86, 2)) d 8 cc rt hh pc L st m r ↔ Ev d 8 cc rt hh (pc + 2) L (.ref 1000038 :: st) m r := E_ldc (by decide +kernel) rfl
theorem n8_95 (hX : gX m < 900000) : EvI (.ok (.new 95, 3)) d 8 cc rt hh pc L st m r ↔ Ev d 8 cc rt hh (pc + 3) L (.ref (gX m) :: st) (nw m 16 0 1) r := E_new (by decide +kernel) hX
theorem n8_104 (hX : gX m < 900000) : EvI (.ok (.new 104, 3)) d 8 cc rt hh pc L st m r ↔ Ev d 8 cc rt hh (pc + 3) L (.ref (gX m) :: st) (nw m 17 0 2) r := E_new (by decide +kernel) hX
theorem n8_135 (hX : gX m < 900000) : EvI (.ok (.new 135, 3)) d 8 cc rt hh pc L st m r ↔ Ev d 8 cc rt hh (pc + 3) L (.ref (gX m) :: st) (nw m 18 0 3) r := E_new (by decide +kernel) hX
theorem k9_ldc2_w_128 : EvI (.ok (.ldc2_w 128, 3)) d 9 cc rt hh pc L st m r ↔ Ev d 9 cc rt hh (pc + 3) L (.long 27 :: st) m r := E_ldc2_w (by decide +kernel) rfl
theorem k9_ldc2_w_130 : EvI (.ok (.ldc2_w 130, 3)) d 9 cc rt hh pc L st m r ↔ Ev d 9 cc rt hh (pc + 3) L (.long 96 :: st) m r := E_ldc2_w (by decide +kernel) rfl
theorem tX9_wordOf_1_0 : EvI (.ok (.tableswitch 544 0 26 #[123, 140, 155, 172, 188, 202, 217, 233, 249, 264, 279, 296, 312, 330, 348, 363, 378, 391, 405, 419, 434, 452, 468, 481, 495, 511, 527], 123)) d 9 cc rt hh 1 L (.int (nI 0) :: st) m r ↔ Ev d 9 cc rt hh 124 L st m r := E_tableIn (off := 123) (by decide) (by decide) (by decide)
theorem tX9_wordOf_1_1 : EvI (.ok (.tableswitch 544 0 26 #[123, 140, 155, 172, 188, 202, 217, 233, 249, 264, 279, 296, 312, 330, 348, 363, 378, 391, 405, 419, 434, 452, 468, 481, 495, 511, 527], 123)) d 9 cc rt hh 1 L (.int (nI 1) :: st) m r ↔ Ev d 9 cc rt hh 141 L st m r := E_tableIn (off := 140) (by decide) (by decide) (by decide)
theorem tX9_wordOf_1_2 : EvI (.ok (.tableswitch 544 0 26 #[123, 140, 155, 172, 188, 202, 217, 233, 249, 264, 279, 296, 312, 330, 348, 363, 378, 391, 405, 419, 434, 452, 468, 481, 495, 511, 527], 123)) d 9 cc rt hh 1 L (.int (nI 2) :: st) m r ↔ Ev d 9 cc rt hh 156 L st m r := E_tableIn (off := 155) (by decide) (by decide) (by decide)
theorem tX9_wordOf_1_3 : EvI (.ok (.tableswitch 544 0 26 #[123, 140, 155, 172, 188, 202, 217, 233, 249, 264, 279, 296, 312, 330, 348, 363, 378, 391, 405, 419, 434, 452, 468, 481, 495, 511, 527], 123)) d 9 cc rt hh 1 L (.int (nI 3) :: st) m r ↔ Ev d 9 cc rt hh 173 L st m r := E_tableIn (off := 172) (by decide) (by decide) (by decide)
theorem tX9_wordOf_1_4 : EvI (.ok (.tableswitch 544 0 26 #[123, 140, 155, 172, 188, 202, 217, 233, 249, 264, 279, 296, 312, 330, 348, 363, 378, 391, 405, 419, 434, 452, 468, 481, 495, 511, 527], 123)) d 9 cc rt hh 1 L (.int (nI 4) :: st) m r ↔ Ev d 9 cc rt hh 189 L st m r := E_tableIn (off := 188) (by decide) (by decide) (by decide)
theorem tX9_wordOf_1_5 : EvI (.ok (.tableswitch 544 0 26 #[123, 140, 155, 172, 188, 202, 217, 233, 249, 264, 279, 296, 312, 330, 348, 363, 378, 391, 405, 419, 434, 452, 468, 481, 495, 511, 527], 123)) d 9 cc rt hh 1 L (.int (nI 5) :: st) m r ↔ Ev d 9 cc rt hh 203 L st m r := E_tableIn (off := 202) (by decide) (by decide) (by decide)
theorem tX9_wordOf_1_6 : EvI (.ok (.tableswitch 544 0 26 #[123, 140, 155, 172, 188, 202, 217, 233, 249, 264, 279, 296, 312, 330, 348, 363, 378, 391, 405, 419, 434, 452, 468, 481, 495, 511, 527], 123)) d 9 cc rt hh 1 L (.int (nI 6) :: st) m r ↔ Ev d 9 cc rt hh 218 L st m r := E_tableIn (off := 217) (by decide) (by decide) (by decide)
theorem tX9_wordOf_1_7 : EvI (.ok (.tableswitch 544 0 26 #[123, 140, 155, 172, 188, 202, 217, 233, 249, 264, 279, 296, 312, 330, 348, 363, 378, 391, 405, 419, 434, 452, 468, 481, 495, 511, 527], 123)) d 9 cc rt hh 1 L (.int (nI 7) :: st) m r ↔ Ev d 9 cc rt hh 234 L st m r := E_tableIn (off := 233) (by decide) (by decide) (by decide)
theorem tX9_wordOf_1_8 : EvI (.ok (.tableswitch 544 0 26 #[123, 140, 155, 172, 188, 202, 217, 233, 249, 264, 279, 296, 312, 330, 348, 363, 378, 391, 405, 419, 434, 452, 468, 481, 495, 511, 527], 123)) d 9 cc rt hh 1 L (.int (nI 8) :: st) m r ↔ Ev d 9 cc rt hh 250 L st m r := E_tableIn (off := 249) (by decide) (by decide) (by decide)
theorem tX9_wordOf_1_9 : EvI (.ok (.tableswitch 544 0 26 #[123, 140, 155, 172, 188, 202, 217, 233, 249, 264, 279, 296, 312, 330, 348, 363, 378, 391, 405, 419, 434, 452, 468, 481, 495, 511, 527], 123)) d 9 cc rt hh 1 L (.int (nI 9) :: st) m r ↔ Ev d 9 cc rt hh 265 L st m r := E_tableIn (off := 264) (by decide) (by decide) (by decide)
theorem tX9_wordOf_1_10 : EvI (.ok (.tableswitch 544 0 26 #[123, 140, 155, 172, 188, 202, 217, 233, 249, 264, 279, 296, 312, 330, 348, 363, 378, 391, 405, 419, 434, 452, 468, 481, 495, 511, 527], 123)) d 9 cc rt hh 1 L (.int (nI 10) :: st) m r ↔ Ev d 9 cc rt hh 280 L st m r := E_tableIn (off := 279) (by decide) (by decide) (by decide)
theorem tX9_wordOf_1_11 : EvI (.ok (.tableswitch 544 0 26 #[123, 140, 155, 172, 188, 202, 217, 233, 249, 264, 279, 296, 312, 330, 348, 363, 378, 391, 405, 419, 434, 452, 468, 481, 495, 511, 527], 123)) d 9 cc rt hh 1 L (.int (nI 11) :: st) m r ↔ Ev d 9 cc rt hh 297 L st m r := E_tableIn (off := 296) (by decide) (by decide) (by decide)
theorem tX9_wordOf_1_12 : EvI (.ok (.tableswitch 544 0 26 #[123, 140, 155, 172, 188, 202, 217, 233, 249, 264, 279, 296, 312, 330, 348, 363, 378, 391, 405, 419, 434, 452, 468, 481, 495, 511, 527], 123)) d 9 cc rt hh 1 L (.int (nI 12) :: st) m r ↔ Ev d 9 cc rt hh 313 L st m r := E_tableIn (off := 312) (by decide) (by decide) (by decide)
theorem tX9_wordOf_1_13 : EvI (.ok (.tableswitch 544 0 26 #[123, 140, 155, 172, 188, 202, 217, 233, 249, 264, 279, 296, 312, 330, 348, 363, 378, 391, 405, 419, 434, 452, 468, 481, 495, 511, 527], 123)) d 9 cc rt hh 1 L (.int (nI 13) :: st) m r ↔ Ev d 9 cc rt hh 331 L st m r := E_tableIn (off := 330) (by decide) (by decide) (by decide)
theorem tX9_wordOf_1_14 : EvI (.ok (.tableswitch 544 0 26 #[123, 140, 155, 172, 188, 202, 217, 233, 249, 264, 279, 296, 312, 330, 348, 363, 378, 391, 405, 419, 434, 452, 468, 481, 495, 511, 527], 123)) d 9 cc rt hh 1 L (.int (nI 14) :: st) m r ↔ Ev d 9 cc rt hh 349 L st m r := E_tableIn (off := 348) (by decide) (by decide) (by decide)
theorem tX9_wordOf_1_15 : EvI (.ok (.tableswitch 544 0 26 #[123, 140, 155, 172, 188, 202, 217, 233, 249, 264, 279, 296, 312, 330, 348, 363, 378, 391, 405, 419, 434, 452, 468, 481, 495, 511, 527], 123)) d 9 cc rt hh 1 L (.int (nI 15) :: st) m r ↔ Ev d 9 cc rt hh 364 L st m r := E_tableIn (off := 363) (by decide) (by decide) (by decide)
theorem tX9_wordOf_1_16 : EvI (.ok (.tableswitch 544 0 26 #[123, 140, 155, 172, 188, 202, 217, 233, 249, 264, 279, 296, 312, 330, 348, 363, 378, 391, 405, 419, 434, 452, 468, 481, 495, 511, 527], 123)) d 9 cc rt hh 1 L (.int (nI 16) :: st) m r ↔ Ev d 9 cc rt hh 379 L st m r := E_tableIn (off := 378) (by decide) (by decide) (by decide)
theorem tX9_wordOf_1_17 : EvI (.ok (.tableswitch 544 0 26 #[123, 140, 155, 172, 188, 202, 217, 233, 249, 264, 279, 296, 312, 330, 348, 363, 378, 391, 405, 419, 434, 452, 468, 481, 495, 511, 527], 123)) d 9 cc rt hh 1 L (.int (nI 17) :: st) m r ↔ Ev d 9 cc rt hh 392 L st m r := E_tableIn (off := 391) (by decide) (by decide) (by decide)
theorem tX9_wordOf_1_18 : EvI (.ok (.tableswitch 544 0 26 #[123, 140, 155, 172, 188, 202, 217, 233, 249, 264, 279, 296, 312, 330, 348, 363, 378, 391, 405, 419, 434, 452, 468, 481, 495, 511, 527], 123)) d 9 cc rt hh 1 L (.int (nI 18) :: st) m r ↔ Ev d 9 cc rt hh 406 L st m r := E_tableIn (off := 405) (by decide) (by decide) (by decide)
theorem tX9_wordOf_1_19 : EvI (.ok (.tableswitch 544 0 26 #[123, 140, 155, 172, 188, 202, 217, 233, 249, 264, 279, 296, 312, 330, 348, 363, 378, 391, 405, 419, 434, 452, 468, 481, 495, 511, 527], 123)) d 9 cc rt hh 1 L (.int (nI 19) :: st) m r ↔ Ev d 9 cc rt hh 420 L st m r := E_tableIn (off := 419) (by decide) (by decide) (by decide)
theorem tX9_wordOf_1_20 : EvI (.ok (.tableswitch 544 0 26 #[123, 140, 155, 172, 188, 202, 217, 233, 249, 264, 279, 296, 312, 330, 348, 363, 378, 391, 405, 419, 434, 452, 468, 481, 495, 511, 527], 123)) d 9 cc rt hh 1 L (.int (nI 20) :: st) m r ↔ Ev d 9 cc rt hh 435 L st m r := E_tableIn (off := 434) (by decide) (by decide) (by decide)
theorem tX9_wordOf_1_21 : EvI (.ok (.tableswitch 544 0 26 #[123, 140, 155, 172, 188, 202, 217, 233, 249, 264, 279, 296, 312, 330, 348, 363, 378, 391, 405, 419, 434, 452, 468, 481, 495, 511, 527], 123)) d 9 cc rt hh 1 L (.int (nI 21) :: st) m r ↔ Ev d 9 cc rt hh 453 L st m r := E_tableIn (off := 452) (by decide) (by decide) (by decide)
theorem tX9_wordOf_1_22 : EvI (.ok (.tableswitch 544 0 26 #[123, 140, 155, 172, 188, 202, 217, 233, 249, 264, 279, 296, 312, 330, 348, 363, 378, 391, 405, 419, 434, 452, 468, 481, 495, 511, 527], 123)) d 9 cc rt hh 1 L (.int (nI 22) :: st) m r ↔ Ev d 9 cc rt hh 469 L st m r := E_tableIn (off := 468) (by decide) (by decide) (by decide)
theorem tX9_wordOf_1_23 : EvI (.ok (.tableswitch 544 0 26 #[123, 140, 155, 172, 188, 202, 217, 233, 249, 264, 279, 296, 312, 330, 348, 363, 378, 391, 405, 419, 434, 452, 468, 481, 495, 511, 527], 123)) d 9 cc rt hh 1 L (.int (nI 23) :: st) m r ↔ Ev d 9 cc rt hh 482 L st m r := E_tableIn (off := 481) (by decide) (by decide) (by decide)
theorem tX9_wordOf_1_24 : EvI (.ok (.tableswitch 544 0 26 #[123, 140, 155, 172, 188, 202, 217, 233, 249, 264, 279, 296, 312, 330, 348, 363, 378, 391, 405, 419, 434, 452, 468, 481, 495, 511, 527], 123)) d 9 cc rt hh 1 L (.int (nI 24) :: st) m r ↔ Ev d 9 cc rt hh 496 L st m r := E_tableIn (off := 495) (by decide) (by decide) (by decide)
theorem tX9_wordOf_1_25 : EvI (.ok (.tableswitch 544 0 26 #[123, 140, 155, 172, 188, 202, 217, 233, 249, 264, 279, 296, 312, 330, 348, 363, 378, 391, 405, 419, 434, 452, 468, 481, 495, 511, 527], 123)) d 9 cc rt hh 1 L (.int (nI 25) :: st) m r ↔ Ev d 9 cc rt hh 512 L st m r := E_tableIn (off := 511) (by decide) (by decide) (by decide)
theorem tX9_wordOf_1_26 : EvI (.ok (.tableswitch 544 0 26 #[123, 140, 155, 172, 188, 202, 217, 233, 249, 264, 279, 296, 312, 330, 348, 363, 378, 391, 405, 419, 434, 452, 468, 481, 495, 511, 527], 123)) d 9 cc rt hh 1 L (.int (nI 26) :: st) m r ↔ Ev d 9 cc rt hh 528 L st m r := E_tableIn (off := 527) (by decide) (by decide) (by decide)
theorem tX9_wordOf_1_d {x : Int32} (h : x.toInt < 0 ∨ 26 < x.toInt) : EvI (.ok (.tableswitch 544 0 26 #[123, 140, 155, 172, 188, 202, 217, 233, 249, 264, 279, 296, 312, 330, 348, 363, 378, 391, 405, 419, 434, 452, 468, 481, 495, 511, 527], 123)) d 9 cc rt hh 1 L (.int x :: st) m r ↔ Ev d 9 cc rt hh 545 L st m r := E_tableOut h (by decide)
theorem tX9_wordOf_1_n {j : Nat} (h : 26 < j ∧ j < 2147483648) : EvI (.ok (.tableswitch 544 0 26 #[123, 140, 155, 172, 188, 202, 217, 233, 249, 264, 279, 296, 312, 330, 348, 363, 378, 391, 405, 419, 434, 452, 468, 481, 495, 511, 527], 123)) d 9 cc rt hh 1 L (.int (nI j) :: st) m r ↔ Ev d 9 cc rt hh 545 L st m r := E_tableOut (Or.inr (by rw [nI_toInt h.2]; omega)) (by decide)
theorem tX9_person_21_0 : EvI (.ok (.tableswitch 183 0 8 #[51, 60, 70, 84, 104, 114, 124, 134, 140], 51)) d 9 cc rt hh 21 L (.int (nI 0) :: st) m r ↔ Ev d 9 cc rt hh 72 L st m r := E_tableIn (off := 51) (by decide) (by decide) (by decide)
theorem tX9_person_21_1 : EvI (.ok (.tableswitch 183 0 8 #[51, 60, 70, 84, 104, 114, 124, 134, 140], 51)) d 9 cc rt hh 21 L (.int (nI 1) :: st) m r ↔ Ev d 9 cc rt hh 81 L st m r := E_tableIn (off := 60) (by decide) (by decide) (by decide)
theorem tX9_person_21_2 : EvI (.ok (.tableswitch 183 0 8 #[51, 60, 70, 84, 104, 114, 124, 134, 140], 51)) d 9 cc rt hh 21 L (.int (nI 2) :: st) m r ↔ Ev d 9 cc rt hh 91 L st m r := E_tableIn (off := 70) (by decide) (by decide) (by decide)
theorem tX9_person_21_3 : EvI (.ok (.tableswitch 183 0 8 #[51, 60, 70, 84, 104, 114, 124, 134, 140], 51)) d 9 cc rt hh 21 L (.int (nI 3) :: st) m r ↔ Ev d 9 cc rt hh 105 L st m r := E_tableIn (off := 84) (by decide) (by decide) (by decide)
theorem tX9_person_21_4 : EvI (.ok (.tableswitch 183 0 8 #[51, 60, 70, 84, 104, 114, 124, 134, 140], 51)) d 9 cc rt hh 21 L (.int (nI 4) :: st) m r ↔ Ev d 9 cc rt hh 125 L st m r := E_tableIn (off := 104) (by decide) (by decide) (by decide)
theorem tX9_person_21_5 : EvI (.ok (.tableswitch 183 0 8 #[51, 60, 70, 84, 104, 114, 124, 134, 140], 51)) d 9 cc rt hh 21 L (.int (nI 5) :: st) m r ↔ Ev d 9 cc rt hh 135 L st m r := E_tableIn (off := 114) (by decide) (by decide) (by decide)
theorem tX9_person_21_6 : EvI (.ok (.tableswitch 183 0 8 #[51, 60, 70, 84, 104, 114, 124, 134, 140], 51)) d 9 cc rt hh 21 L (.int (nI 6) :: st) m r ↔ Ev d 9 cc rt hh 145 L st m r := E_tableIn (off := 124) (by decide) (by decide) (by decide)
theorem tX9_person_21_7 : EvI (.ok (.tableswitch 183 0 8 #[51, 60, 70, 84, 104, 114, 124, 134, 140], 51)) d 9 cc rt hh 21 L (.int (nI 7) :: st) m r ↔ Ev d 9 cc rt hh 155 L st m r := E_tableIn (off := 134) (by decide) (by decide) (by decide)
theorem tX9_person_21_8 : EvI (.ok (.tableswitch 183 0 8 #[51, 60, 70, 84, 104, 114, 124, 134, 140], 51)) d 9 cc rt hh 21 L (.int (nI 8) :: st) m r ↔ Ev d 9 cc rt hh 161 L st m r := E_tableIn (off := 140) (by decide) (by decide) (by decide)
theorem tX9_person_21_d {x : Int32} (h : x.toInt < 0 ∨ 8 < x.toInt) : EvI (.ok (.tableswitch 183 0 8 #[51, 60, 70, 84, 104, 114, 124, 134, 140], 51)) d 9 cc rt hh 21 L (.int x :: st) m r ↔ Ev d 9 cc rt hh 204 L st m r := E_tableOut h (by decide)
theorem tX9_person_21_n {j : Nat} (h : 8 < j ∧ j < 2147483648) : EvI (.ok (.tableswitch 183 0 8 #[51, 60, 70, 84, 104, 114, 124, 134, 140], 51)) d 9 cc rt hh 21 L (.int (nI j) :: st) m r ↔ Ev d 9 cc rt hh 204 L st m r := E_tableOut (Or.inr (by rw [nI_toInt h.2]; omega)) (by decide)
theorem tX9_dish_18_0 : EvI (.ok (.tableswitch 78 0 2 #[26, 36, 46], 26)) d 9 cc rt hh 18 L (.int (nI 0) :: st) m r ↔ Ev d 9 cc rt hh 44 L st m r := E_tableIn (off := 26) (by decide) (by decide) (by decide)
theorem tX9_dish_18_1 : EvI (.ok (.tableswitch 78 0 2 #[26, 36, 46], 26)) d 9 cc rt hh 18 L (.int (nI 1) :: st) m r ↔ Ev d 9 cc rt hh 54 L st m r := E_tableIn (off := 36) (by decide) (by decide) (by decide)
theorem tX9_dish_18_2 : EvI (.ok (.tableswitch 78 0 2 #[26, 36, 46], 26)) d 9 cc rt hh 18 L (.int (nI 2) :: st) m r ↔ Ev d 9 cc rt hh 64 L st m r := E_tableIn (off := 46) (by decide) (by decide) (by decide)
theorem tX9_dish_18_d {x : Int32} (h : x.toInt < 0 ∨ 2 < x.toInt) : EvI (.ok (.tableswitch 78 0 2 #[26, 36, 46], 26)) d 9 cc rt hh 18 L (.int x :: st) m r ↔ Ev d 9 cc rt hh 96 L st m r := E_tableOut h (by decide)
theorem tX9_dish_18_n {j : Nat} (h : 2 < j ∧ j < 2147483648) : EvI (.ok (.tableswitch 78 0 2 #[26, 36, 46], 26)) d 9 cc rt hh 18 L (.int (nI j) :: st) m r ↔ Ev d 9 cc rt hh 96 L st m r := E_tableOut (Or.inr (by rw [nI_toInt h.2]; omega)) (by decide)
theorem tX9_now_6_0 : EvI (.ok (.tableswitch 108 0 7 #[46, 54, 62, 70, 78, 86, 93, 100], 46)) d 9 cc rt hh 6 L (.int (nI 0) :: st) m r ↔ Ev d 9 cc rt hh 52 L st m r := E_tableIn (off := 46) (by decide) (by decide) (by decide)
theorem tX9_now_6_1 : EvI (.ok (.tableswitch 108 0 7 #[46, 54, 62, 70, 78, 86, 93, 100], 46)) d 9 cc rt hh 6 L (.int (nI 1) :: st) m r ↔ Ev d 9 cc rt hh 60 L st m r := E_tableIn (off := 54) (by decide) (by decide) (by decide)
theorem tX9_now_6_2 : EvI (.ok (.tableswitch 108 0 7 #[46, 54, 62, 70, 78, 86, 93, 100], 46)) d 9 cc rt hh 6 L (.int (nI 2) :: st) m r ↔ Ev d 9 cc rt hh 68 L st m r := E_tableIn (off := 62) (by decide) (by decide) (by decide)
theorem tX9_now_6_3 : EvI (.ok (.tableswitch 108 0 7 #[46, 54, 62, 70, 78, 86, 93, 100], 46)) d 9 cc rt hh 6 L (.int (nI 3) :: st) m r ↔ Ev d 9 cc rt hh 76 L st m r := E_tableIn (off := 70) (by decide) (by decide) (by decide)
theorem tX9_now_6_4 : EvI (.ok (.tableswitch 108 0 7 #[46, 54, 62, 70, 78, 86, 93, 100], 46)) d 9 cc rt hh 6 L (.int (nI 4) :: st) m r ↔ Ev d 9 cc rt hh 84 L st m r := E_tableIn (off := 78) (by decide) (by decide) (by decide)
theorem tX9_now_6_5 : EvI (.ok (.tableswitch 108 0 7 #[46, 54, 62, 70, 78, 86, 93, 100], 46)) d 9 cc rt hh 6 L (.int (nI 5) :: st) m r ↔ Ev d 9 cc rt hh 92 L st m r := E_tableIn (off := 86) (by decide) (by decide) (by decide)
theorem tX9_now_6_6 : EvI (.ok (.tableswitch 108 0 7 #[46, 54, 62, 70, 78, 86, 93, 100], 46)) d 9 cc rt hh 6 L (.int (nI 6) :: st) m r ↔ Ev d 9 cc rt hh 99 L st m r := E_tableIn (off := 93) (by decide) (by decide) (by decide)
theorem tX9_now_6_7 : EvI (.ok (.tableswitch 108 0 7 #[46, 54, 62, 70, 78, 86, 93, 100], 46)) d 9 cc rt hh 6 L (.int (nI 7) :: st) m r ↔ Ev d 9 cc rt hh 106 L st m r := E_tableIn (off := 100) (by decide) (by decide) (by decide)
theorem tX9_now_6_d {x : Int32} (h : x.toInt < 0 ∨ 7 < x.toInt) : EvI (.ok (.tableswitch 108 0 7 #[46, 54, 62, 70, 78, 86, 93, 100], 46)) d 9 cc rt hh 6 L (.int x :: st) m r ↔ Ev d 9 cc rt hh 114 L st m r := E_tableOut h (by decide)
theorem tX9_now_6_n {j : Nat} (h : 7 < j ∧ j < 2147483648) : EvI (.ok (.tableswitch 108 0 7 #[46, 54, 62, 70, 78, 86, 93, 100], 46)) d 9 cc rt hh 6 L (.int (nI j) :: st) m r ↔ Ev d 9 cc rt hh 114 L st m r := E_tableOut (Or.inr (by rw [nI_toInt h.2]; omega)) (by decide)
theorem tX9_why_11_0 : EvI (.ok (.tableswitch 138 0 4 #[33, 64, 84, 98, 118], 33)) d 9 cc rt hh 11 L (.int (nI 0) :: st) m r ↔ Ev d 9 cc rt hh 44 L st m r := E_tableIn (off := 33) (by decide) (by decide) (by decide)
theorem tX9_why_11_1 : EvI (.ok (.tableswitch 138 0 4 #[33, 64, 84, 98, 118], 33)) d 9 cc rt hh 11 L (.int (nI 1) :: st) m r ↔ Ev d 9 cc rt hh 75 L st m r := E_tableIn (off := 64) (by decide) (by decide) (by decide)
theorem tX9_why_11_2 : EvI (.ok (.tableswitch 138 0 4 #[33, 64, 84, 98, 118], 33)) d 9 cc rt hh 11 L (.int (nI 2) :: st) m r ↔ Ev d 9 cc rt hh 95 L st m r := E_tableIn (off := 84) (by decide) (by decide) (by decide)
theorem tX9_why_11_3 : EvI (.ok (.tableswitch 138 0 4 #[33, 64, 84, 98, 118], 33)) d 9 cc rt hh 11 L (.int (nI 3) :: st) m r ↔ Ev d 9 cc rt hh 109 L st m r := E_tableIn (off := 98) (by decide) (by decide) (by decide)
theorem tX9_why_11_4 : EvI (.ok (.tableswitch 138 0 4 #[33, 64, 84, 98, 118], 33)) d 9 cc rt hh 11 L (.int (nI 4) :: st) m r ↔ Ev d 9 cc rt hh 129 L st m r := E_tableIn (off := 118) (by decide) (by decide) (by decide)
theorem tX9_why_11_d {x : Int32} (h : x.toInt < 0 ∨ 4 < x.toInt) : EvI (.ok (.tableswitch 138 0 4 #[33, 64, 84, 98, 118], 33)) d 9 cc rt hh 11 L (.int x :: st) m r ↔ Ev d 9 cc rt hh 149 L st m r := E_tableOut h (by decide)
theorem tX9_why_11_n {j : Nat} (h : 4 < j ∧ j < 2147483648) : EvI (.ok (.tableswitch 138 0 4 #[33, 64, 84, 98, 118], 33)) d 9 cc rt hh 11 L (.int (nI j) :: st) m r ↔ Ev d 9 cc rt hh 149 L st m r := E_tableOut (Or.inr (by rw [nI_toInt h.2]; omega)) (by decide)
theorem tX9_live_1_0 : EvI (.ok (.tableswitch 98 0 4 #[35, 44, 78, 84, 84], 35)) d 9 cc rt hh 1 L (.int (nI 0) :: st) m r ↔ Ev d 9 cc rt hh 36 L st m r := E_tableIn (off := 35) (by decide) (by decide) (by decide)
theorem tX9_live_1_1 : EvI (.ok (.tableswitch 98 0 4 #[35, 44, 78, 84, 84], 35)) d 9 cc rt hh 1 L (.int (nI 1) :: st) m r ↔ Ev d 9 cc rt hh 45 L st m r := E_tableIn (off := 44) (by decide) (by decide) (by decide)
theorem tX9_live_1_2 : EvI (.ok (.tableswitch 98 0 4 #[35, 44, 78, 84, 84], 35)) d 9 cc rt hh 1 L (.int (nI 2) :: st) m r ↔ Ev d 9 cc rt hh 79 L st m r := E_tableIn (off := 78) (by decide) (by decide) (by decide)
theorem tX9_live_1_3 : EvI (.ok (.tableswitch 98 0 4 #[35, 44, 78, 84, 84], 35)) d 9 cc rt hh 1 L (.int (nI 3) :: st) m r ↔ Ev d 9 cc rt hh 85 L st m r := E_tableIn (off := 84) (by decide) (by decide) (by decide)
theorem tX9_live_1_4 : EvI (.ok (.tableswitch 98 0 4 #[35, 44, 78, 84, 84], 35)) d 9 cc rt hh 1 L (.int (nI 4) :: st) m r ↔ Ev d 9 cc rt hh 85 L st m r := E_tableIn (off := 84) (by decide) (by decide) (by decide)
theorem tX9_live_1_d {x : Int32} (h : x.toInt < 0 ∨ 4 < x.toInt) : EvI (.ok (.tableswitch 98 0 4 #[35, 44, 78, 84, 84], 35)) d 9 cc rt hh 1 L (.int x :: st) m r ↔ Ev d 9 cc rt hh 99 L st m r := E_tableOut h (by decide)
theorem tX9_live_1_n {j : Nat} (h : 4 < j ∧ j < 2147483648) : EvI (.ok (.tableswitch 98 0 4 #[35, 44, 78, 84, 84], 35)) d 9 cc rt hh 1 L (.int (nI j) :: st) m r ↔ Ev d 9 cc rt hh 99 L st m r := E_tableOut (Or.inr (by rw [nI_toInt h.2]; omega)) (by decide)
theorem k9_ldc_w_308 : EvI (.ok (.ldc_w 308, 3)) d 9 cc rt hh pc L st m r ↔ Ev d 9 cc rt hh (pc + 3) L (.int 1000000 :: st) m r := E_ldc_w (by decide +kernel) rfl
theorem k9_ldc_w_354 : EvI (.ok (.ldc_w 354, 3)) d 9 cc rt hh pc L st m r ↔ Ev d 9 cc rt hh (pc + 3) L (.int 1103515245 :: st) m r := E_ldc_w (by decide +kernel) rfl
theorem tX9_count_6_0 : EvI (.ok (.tableswitch 67 0 4 #[34, 41, 48, 55, 62], 34)) d 9 cc rt hh 6 L (.int (nI 0) :: st) m r ↔ Ev d 9 cc rt hh 40 L st m r := E_tableIn (off := 34) (by decide) (by decide) (by decide)
theorem tX9_count_6_1 : EvI (.ok (.tableswitch 67 0 4 #[34, 41, 48, 55, 62], 34)) d 9 cc rt hh 6 L (.int (nI 1) :: st) m r ↔ Ev d 9 cc rt hh 47 L st m r := E_tableIn (off := 41) (by decide) (by decide) (by decide)
theorem tX9_count_6_2 : EvI (.ok (.tableswitch 67 0 4 #[34, 41, 48, 55, 62], 34)) d 9 cc rt hh 6 L (.int (nI 2) :: st) m r ↔ Ev d 9 cc rt hh 54 L st m r := E_tableIn (off := 48) (by decide) (by decide) (by decide)
theorem tX9_count_6_3 : EvI (.ok (.tableswitch 67 0 4 #[34, 41, 48, 55, 62], 34)) d 9 cc rt hh 6 L (.int (nI 3) :: st) m r ↔ Ev d 9 cc rt hh 61 L st m r := E_tableIn (off := 55) (by decide) (by decide) (by decide)
theorem tX9_count_6_4 : EvI (.ok (.tableswitch 67 0 4 #[34, 41, 48, 55, 62], 34)) d 9 cc rt hh 6 L (.int (nI 4) :: st) m r ↔ Ev d 9 cc rt hh 68 L st m r := E_tableIn (off := 62) (by decide) (by decide) (by decide)
theorem tX9_count_6_d {x : Int32} (h : x.toInt < 0 ∨ 4 < x.toInt) : EvI (.ok (.tableswitch 67 0 4 #[34, 41, 48, 55, 62], 34)) d 9 cc rt hh 6 L (.int x :: st) m r ↔ Ev d 9 cc rt hh 73 L st m r := E_tableOut h (by decide)
theorem tX9_count_6_n {j : Nat} (h : 4 < j ∧ j < 2147483648) : EvI (.ok (.tableswitch 67 0 4 #[34, 41, 48, 55, 62], 34)) d 9 cc rt hh 6 L (.int (nI j) :: st) m r ↔ Ev d 9 cc rt hh 73 L st m r := E_tableOut (Or.inr (by rw [nI_toInt h.2]; omega)) (by decide)
theorem tX19_is_4_0 : EvI (.ok (.tableswitch 92 0 3 #[32, 41, 53, 70], 32)) d 19 cc rt hh 4 L (.int (nI 0) :: st) m r ↔ Ev d 19 cc rt hh 36 L st m r := E_tableIn (off := 32) (by decide) (by decide) (by decide)
theorem tX19_is_4_1 : EvI (.ok (.tableswitch 92 0 3 #[32, 41, 53, 70], 32)) d 19 cc rt hh 4 L (.int (nI 1) :: st) m r ↔ Ev d 19 cc rt hh 45 L st m r := E_tableIn (off := 41) (by decide) (by decide) (by decide)
theorem tX19_is_4_2 : EvI (.ok (.tableswitch 92 0 3 #[32, 41, 53, 70], 32)) d 19 cc rt hh 4 L (.int (nI 2) :: st) m r ↔ Ev d 19 cc rt hh 57 L st m r := E_tableIn (off := 53) (by decide) (by decide) (by decide)
theorem tX19_is_4_3 : EvI (.ok (.tableswitch 92 0 3 #[32, 41, 53, 70], 32)) d 19 cc rt hh 4 L (.int (nI 3) :: st) m r ↔ Ev d 19 cc rt hh 74 L st m r := E_tableIn (off := 70) (by decide) (by decide) (by decide)
theorem tX19_is_4_d {x : Int32} (h : x.toInt < 0 ∨ 3 < x.toInt) : EvI (.ok (.tableswitch 92 0 3 #[32, 41, 53, 70], 32)) d 19 cc rt hh 4 L (.int x :: st) m r ↔ Ev d 19 cc rt hh 96 L st m r := E_tableOut h (by decide)
theorem tX19_is_4_n {j : Nat} (h : 3 < j ∧ j < 2147483648) : EvI (.ok (.tableswitch 92 0 3 #[32, 41, 53, 70], 32)) d 19 cc rt hh 4 L (.int (nI j) :: st) m r ↔ Ev d 19 cc rt hh 96 L st m r := E_tableOut (Or.inr (by rw [nI_toInt h.2]; omega)) (by decide)
theorem n123_7 (hX : gX m < 900000) : EvI (.ok (.new 7, 3)) d 123 cc rt hh pc L st m r ↔ Ev d 123 cc rt hh (pc + 3) L (.ref (gX m) :: st) (nw m 4 0 12) r := E_new (by decide +kernel) hX
theorem g33_38 : EvI (.ok (.getstatic 38, 3)) d 33 cc rt hh pc L st m r ↔ Ev d 33 cc rt hh (pc + 3) L (.int 1 :: st) m r := E_getstatic (by decide +kernel)
theorem g36_403 : EvI (.ok (.getstatic 403, 3)) d 36 cc rt hh pc L st m r ↔ Ev d 36 cc rt hh (pc + 3) L (.ref 1900000 :: st) m r := E_getstatic (by decide +kernel)
theorem g36_407 : EvI (.ok (.getstatic 407, 3)) d 36 cc rt hh pc L st m r ↔ Ev d 36 cc rt hh (pc + 3) L (.ref 1900001 :: st) m r := E_getstatic (by decide +kernel)
theorem k40_ldc_w_264 : EvI (.ok (.ldc_w 264, 3)) d 40 cc rt hh pc L st m r ↔ Ev d 40 cc rt hh (pc + 3) L (.int 65536 :: st) m r := E_ldc_w (by decide +kernel) rfl
theorem g40_13 : EvI (.ok (.getstatic 13, 3)) d 40 cc rt hh pc L st m r ↔ Ev d 40 cc rt hh (pc + 3) L (.int 1 :: st) m r := E_getstatic (by decide +kernel)
theorem n40_5 (hX : gX m < 900000) : EvI (.ok (.new 5, 3)) d 40 cc rt hh pc L st m r ↔ Ev d 40 cc rt hh (pc + 3) L (.ref (gX m) :: st) (nw m 22 0 4) r := E_new (by decide +kernel) hX
theorem g40_83 : EvI (.ok (.getstatic 83, 3)) d 40 cc rt hh pc L st m r ↔ Ev d 40 cc rt hh (pc + 3) L (.ref 1900000 :: st) m r := E_getstatic (by decide +kernel)
theorem g40_87 : EvI (.ok (.getstatic 87, 3)) d 40 cc rt hh pc L st m r ↔ Ev d 40 cc rt hh (pc + 3) L (.ref 1900001 :: st) m r := E_getstatic (by decide +kernel)
theorem na_int {o n : Nat} (hn : n ≤ 1000000) (hX : gX m < 900000) : EvI (.ok (.newarray .int, 2)) d o cc rt hh pc L (.int (nI n) :: st) m r ↔ Ev d o cc rt hh (pc + 2) L (.ref (gX m) :: st) (nw m 100 n n) r := E_newarray rfl hn hX
theorem na_byte {o n : Nat} (hn : n ≤ 1000000) (hX : gX m < 900000) : EvI (.ok (.newarray .byte, 2)) d o cc rt hh pc L (.int (nI n) :: st) m r ↔ Ev d o cc rt hh (pc + 2) L (.ref (gX m) :: st) (nw m 101 n n) r := E_newarray rfl hn hX
theorem na_boolean {o n : Nat} (hn : n ≤ 1000000) (hX : gX m < 900000) : EvI (.ok (.newarray .boolean, 2)) d o cc rt hh pc L (.int (nI n) :: st) m r ↔ Ev d o cc rt hh (pc + 2) L (.ref (gX m) :: st) (nw m 102 n n) r := E_newarray rfl hn hX
theorem na_long {o n : Nat} (hn : n ≤ 1000000) (hX : gX m < 900000) : EvI (.ok (.newarray .long, 2)) d o cc rt hh pc L (.int (nI n) :: st) m r ↔ Ev d o cc rt hh (pc + 2) L (.ref (gX m) :: st) (nw m 103 n n) r := E_newarray rfl hn hX
end SWI
end WR
