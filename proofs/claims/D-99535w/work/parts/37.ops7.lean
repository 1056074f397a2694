def lpS (x : Int32) : Int32 := if x = 0 then -2 else x - 1
