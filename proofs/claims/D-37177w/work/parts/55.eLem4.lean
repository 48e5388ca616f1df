/-! the numbers behind a new cell -/
def bk_new4 (nw : Nat → Int32) (k : Nat) (st sz wk : Int32) : Nat → Int32 := upd (upd (upd nw k st) (40 + k) sz) (80 + k) wk
def bk_new5 (nw : Nat → Int32) (k : Nat) (st sz wk : Int32) : Nat → Int32 := upd (bk_new4 nw k st sz wk) 152 (bk_new4 nw k st sz wk 152 + 1)
def bk_newc (nw : Nat → Int32) (k : Nat) (st sz wk : Int32) : Nat → Int32 := upd (bk_new5 nw k st sz wk) 153 (bk_new5 nw k st sz wk 153 + xk_b (bk_new5 nw k st sz wk (40 + k) = 0))
